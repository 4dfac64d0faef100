set_option maxRecDepth 100000
theorem fl_X3_36 {G : Cx} {nL fr lc : Nat} {cc : ByteArray} {ret : Option FieldType} {nm : String} (hF : FX G cc nL RX3 ret nm fr lc) : ∀ c ∈ [0], GF G RX3 36 c 0 := by
  obtain ⟨⟨p, l, e, R, s, m, args, below, meth, c0⟩, A, D, dA, mi⟩ := G
  obtain ⟨hx, hb, hml, hown, hts, hr, hlk, hK, hnm, hfr, hlc⟩ := hF
  exact List.forall_mem_cons.mpr ⟨⟨RX0, TX0, 6, "StoryColumns", rfl, in_X0, Nat.le_of_ble_eq_true rfl, Or.inr ⟨_, (va_Nw.use rfl (hK.2.1 _ n_q120))⟩, fun _ h => h⟩, fun _ h9 => absurd h9 List.not_mem_nil⟩
theorem fl_X3_63 {G : Cx} {nL fr lc : Nat} {cc : ByteArray} {ret : Option FieldType} {nm : String} (hF : FX G cc nL RX3 ret nm fr lc) : ∀ c ∈ [0], GF G RX3 63 c 1 := by
  obtain ⟨⟨p, l, e, R, s, m, args, below, meth, c0⟩, A, D, dA, mi⟩ := G
  obtain ⟨hx, hb, hml, hown, hts, hr, hlk, hK, hnm, hfr, hlc⟩ := hF
  exact List.forall_mem_cons.mpr ⟨⟨RX0, TX0, 6, "StoryColumns", rfl, in_X0, Nat.le_of_ble_eq_true rfl, Or.inr ⟨_, (va_Nw.use rfl (hK.2.1 _ n_q123))⟩, fun _ h => h⟩, fun _ h9 => absurd h9 List.not_mem_nil⟩
theorem fl_X3_68 {G : Cx} {nL fr lc : Nat} {cc : ByteArray} {ret : Option FieldType} {nm : String} (hF : FX G cc nL RX3 ret nm fr lc) : ∀ c ∈ [4], GF G RX3 68 c 1 := by
  obtain ⟨⟨p, l, e, R, s, m, args, below, meth, c0⟩, A, D, dA, mi⟩ := G
  obtain ⟨hx, hb, hml, hown, hts, hr, hlk, hK, hnm, hfr, hlc⟩ := hF
  exact List.forall_mem_cons.mpr ⟨⟨RX4, TX4, 5, "StoryColumns$Line", rfl, in_X4, Nat.le_of_ble_eq_true rfl, Or.inr ⟨_, (va_Nw.use rfl (hK.2.1 _ n_q544))⟩, fun _ h => h⟩, fun _ h9 => absurd h9 List.not_mem_nil⟩
theorem fl_X3_82 {G : Cx} {nL fr lc : Nat} {cc : ByteArray} {ret : Option FieldType} {nm : String} (hF : FX G cc nL RX3 ret nm fr lc) : ∀ c ∈ [4], GF G RX3 82 c 2 := by
  obtain ⟨⟨p, l, e, R, s, m, args, below, meth, c0⟩, A, D, dA, mi⟩ := G
  obtain ⟨hx, hb, hml, hown, hts, hr, hlk, hK, hnm, hfr, hlc⟩ := hF
  exact List.forall_mem_cons.mpr ⟨⟨RX4, TX4, 5, "StoryColumns$Line", rfl, in_X4, Nat.le_of_ble_eq_true rfl, Or.inr ⟨_, (va_Nw.use rfl (hK.2.1 _ n_q547))⟩, fun _ h => h⟩, fun _ h9 => absurd h9 List.not_mem_nil⟩
theorem fl_X3_71 {G : Cx} {nL fr lc : Nat} {cc : ByteArray} {ret : Option FieldType} {nm : String} (hF : FX G cc nL RX3 ret nm fr lc) : ∀ c ∈ [4], GF G RX3 71 c 0 := by
  obtain ⟨⟨p, l, e, R, s, m, args, below, meth, c0⟩, A, D, dA, mi⟩ := G
  obtain ⟨hx, hb, hml, hown, hts, hr, hlk, hK, hnm, hfr, hlc⟩ := hF
  exact List.forall_mem_cons.mpr ⟨⟨RX4, TX4, 5, "StoryColumns$Line", rfl, in_X4, Nat.le_of_ble_eq_true rfl, Or.inr ⟨_, (va_Nw.use rfl (hK.2.1 _ n_q541))⟩, fun _ h => h⟩, fun _ h9 => absurd h9 List.not_mem_nil⟩
theorem fl_X3_72 {G : Cx} {nL fr lc : Nat} {cc : ByteArray} {ret : Option FieldType} {nm : String} (hF : FX G cc nL RX3 ret nm fr lc) : ∀ c ∈ [4], GF G RX3 72 c 3 := by
  obtain ⟨⟨p, l, e, R, s, m, args, below, meth, c0⟩, A, D, dA, mi⟩ := G
  obtain ⟨hx, hb, hml, hown, hts, hr, hlk, hK, hnm, hfr, hlc⟩ := hF
  exact List.forall_mem_cons.mpr ⟨⟨RX4, TX4, 5, "StoryColumns$Line", rfl, in_X4, Nat.le_of_ble_eq_true rfl, Or.inr ⟨_, (va_Nw.use rfl (hK.2.1 _ n_q551))⟩, fun _ h => h⟩, fun _ h9 => absurd h9 List.not_mem_nil⟩
theorem fl_X3_75 {G : Cx} {nL fr lc : Nat} {cc : ByteArray} {ret : Option FieldType} {nm : String} (hF : FX G cc nL RX3 ret nm fr lc) : ∀ c ∈ [4], GF G RX3 75 c 4 := by
  obtain ⟨⟨p, l, e, R, s, m, args, below, meth, c0⟩, A, D, dA, mi⟩ := G
  obtain ⟨hx, hb, hml, hown, hts, hr, hlk, hK, hnm, hfr, hlc⟩ := hF
  exact List.forall_mem_cons.mpr ⟨⟨RX4, TX4, 5, "StoryColumns$Line", rfl, in_X4, Nat.le_of_ble_eq_true rfl, Or.inr ⟨_, (va_Nw.use rfl (hK.2.1 _ n_q554))⟩, fun _ h => h⟩, fun _ h9 => absurd h9 List.not_mem_nil⟩
theorem fl_X3_50 {G : Cx} {nL fr lc : Nat} {cc : ByteArray} {ret : Option FieldType} {nm : String} (hF : FX G cc nL RX3 ret nm fr lc) : ∀ c ∈ [2, 3], GF G RX3 50 c 2 := by
  obtain ⟨⟨p, l, e, R, s, m, args, below, meth, c0⟩, A, D, dA, mi⟩ := G
  obtain ⟨hx, hb, hml, hown, hts, hr, hlk, hK, hnm, hfr, hlc⟩ := hF
  exact List.forall_mem_cons.mpr ⟨⟨RX2, TX2, 13, "StoryColumns$Block", rfl, in_X2, Nat.le_of_ble_eq_true rfl, Or.inl (hts _ q186), fun _ h => h⟩, List.forall_mem_cons.mpr ⟨⟨RX3, TX3, 14, "StoryColumns$Block", rfl, in_X3, Nat.le_of_ble_eq_true rfl, Or.inl (hts _ q186), fun _ h => h⟩, fun _ h9 => absurd h9 List.not_mem_nil⟩⟩
theorem fl_X3_54 {G : Cx} {nL fr lc : Nat} {cc : ByteArray} {ret : Option FieldType} {nm : String} (hF : FX G cc nL RX3 ret nm fr lc) : ∀ c ∈ [2, 3], GF G RX3 54 c 5 := by
  obtain ⟨⟨p, l, e, R, s, m, args, below, meth, c0⟩, A, D, dA, mi⟩ := G
  obtain ⟨hx, hb, hml, hown, hts, hr, hlk, hK, hnm, hfr, hlc⟩ := hF
  exact List.forall_mem_cons.mpr ⟨⟨RX2, TX2, 13, "StoryColumns$Block", rfl, in_X2, Nat.le_of_ble_eq_true rfl, Or.inl (hts _ q198), fun _ h => h⟩, List.forall_mem_cons.mpr ⟨⟨RX3, TX3, 14, "StoryColumns$Block", rfl, in_X3, Nat.le_of_ble_eq_true rfl, Or.inl (hts _ q198), fun _ h => h⟩, fun _ h9 => absurd h9 List.not_mem_nil⟩⟩
theorem fl_X3_53 {G : Cx} {nL fr lc : Nat} {cc : ByteArray} {ret : Option FieldType} {nm : String} (hF : FX G cc nL RX3 ret nm fr lc) : ∀ c ∈ [2, 3], GF G RX3 53 c 1 := by
  obtain ⟨⟨p, l, e, R, s, m, args, below, meth, c0⟩, A, D, dA, mi⟩ := G
  obtain ⟨hx, hb, hml, hown, hts, hr, hlk, hK, hnm, hfr, hlc⟩ := hF
  exact List.forall_mem_cons.mpr ⟨⟨RX2, TX2, 13, "StoryColumns$Block", rfl, in_X2, Nat.le_of_ble_eq_true rfl, Or.inl (hts _ q182), fun _ h => h⟩, List.forall_mem_cons.mpr ⟨⟨RX3, TX3, 14, "StoryColumns$Block", rfl, in_X3, Nat.le_of_ble_eq_true rfl, Or.inl (hts _ q182), fun _ h => h⟩, fun _ h9 => absurd h9 List.not_mem_nil⟩⟩
theorem cw_X3_reachesAcross : CWm yX3_reachesAcross cX3_reachesAcross 4 (Option.some Jvm.ClassFile.FieldType.boolean) 1 := ⟨q650, q65, by decide +kernel, by decide +kernel, by decide +kernel⟩
def fX3_reach_J238 (r127 : Option Nat → Int32 → Int32 → Int32 → Mp → Nat → Rs Int32) (l0 : Option Nat) (l1 : Int32) (l3 : Int32) (s0 : Int32) (M : Mp) (z : Nat) : Rs Int32 := r127 l0 l1 s0 (l3 + 1) M z

theorem gX3_reach_J238 {G : Cx} {F : Option Value × Mp × Nat}  {r127 : Option Nat → Int32 → Int32 → Int32 → Mp → Nat → Rs Int32}(hF : FX G cX3_reach 6 RX3 (Option.some Jvm.ClassFile.FieldType.int) "reach" 5 114) (hr127 : ∀ l0 l1 l2 l3 M z, SK G F 6 eI 127 [some (va_rf l0), some (.int l1), some (.int l2), some (.int l3), none, none] [] M z (r127 l0 l1 l2 l3 M z)) (l0 : Option Nat) (l1 : Int32) (l3 : Int32) (s0 : Int32) (M : Mp) (z : Nat) : SK G F 6 eI 238 [some (va_rf l0), some (.int l1), none, some (.int l3), none, none] [.int s0] M z (fX3_reach_J238 r127 l0 l1 l3 s0 M z) := by
  unfold fX3_reach_J238
  refine s_istore_n (L9 := [some (va_rf l0), some (.int l1), some (.int s0), some (.int l3), none, none]) (pc := 238) hF dX3_reach_238 rfl (Nat.le_of_ble_eq_true rfl) rfl ?_
  refine s_iinc (v := l3 + 1) (L9 := [some (va_rf l0), some (.int l1), some (.int s0), some (.int (l3 + 1)), none, none]) (pc := 239) hF dX3_reach_239 rfl rfl (Nat.le_of_ble_eq_true rfl) rfl ?_
  refine s_goto (pc := 242) hF 127 dX3_reach_242 rfl ?_
  exact SK.sb (hr127 l0 l1 s0 (l3 + 1) M z) ⟨rfl, ⟨rfl, ⟨rfl, ⟨rfl, trivial⟩⟩⟩⟩

def fX3_reach_J216 (r127 : Option Nat → Int32 → Int32 → Int32 → Mp → Nat → Rs Int32) (l0 : Option Nat) (l1 : Int32) (l2 : Int32) (l3 : Int32) (l4 : Option Nat) (s0 : Int32) (M : Mp) (z : Nat) : Rs Int32 := if s0 = 0 then
  (fX3_reach_J238 r127 l0 l1 l3 l2 M z)
else
  ((gi M l4 [4] 2).bind fun v1 =>
fX3_reach_J238 r127 l0 l1 l3 (mn l2 (v1 - (1 : Int32))) M z)

theorem gX3_reach_J216 {G : Cx} {F : Option Value × Mp × Nat}  {r127 : Option Nat → Int32 → Int32 → Int32 → Mp → Nat → Rs Int32}(hF : FX G cX3_reach 6 RX3 (Option.some Jvm.ClassFile.FieldType.int) "reach" 5 114) (hr127 : ∀ l0 l1 l2 l3 M z, SK G F 6 eI 127 [some (va_rf l0), some (.int l1), some (.int l2), some (.int l3), none, none] [] M z (r127 l0 l1 l2 l3 M z)) (l0 : Option Nat) (l1 : Int32) (l2 : Int32) (l3 : Int32) (l4 : Option Nat) (s0 : Int32) (M : Mp) (z : Nat) : SK G F 6 eI 216 [some (va_rf l0), some (.int l1), some (.int l2), some (.int l3), some (va_rf l4), none] [.int s0] M z (fX3_reach_J216 r127 l0 l1 l2 l3 l4 s0 M z) := by
  unfold fX3_reach_J216
  refine s_istore (L9 := [some (va_rf l0), some (.int l1), some (.int l2), some (.int l3), some (va_rf l4), some (.int s0)]) (pc := 216) hF dX3_reach_216 (Nat.le_of_ble_eq_true rfl) rfl ?_
  refine s_iload (pc := 218) hF dX3_reach_218 rfl ?_
  refine s_if_eq (pc := 220) hF 237 dX3_reach_220 rfl ?_ ?_
  · refine s_iload_n (pc := 237) hF dX3_reach_237 rfl rfl ?_
    exact SK.sb (gX3_reach_J238 hF hr127 l0 l1 l3 l2 M z) ⟨rfl, ⟨rfl, ⟨rfl, trivial⟩⟩⟩
  · refine s_iload_n (pc := 223) hF dX3_reach_223 rfl rfl ?_
    refine s_aload (pc := 224) hF dX3_reach_224 rfl ?_
    refine s_geti (pc := 226) hF (fl_X3_82 hF) dX3_reach_226 (fun v1 => ?_)
    refine s_iconst (pc := 229) hF dX3_reach_229 (1 : Int32) (by decide) ?_
    refine s_isub (pc := 230) hF dX3_reach_230 ?_
    refine s_min (pc := 231) hF q664 ⟨Nat.le_of_ble_eq_true rfl, Nat.le_of_ble_eq_true rfl⟩ ⟨trivial, Nat.le_of_ble_eq_true rfl⟩ dX3_reach_231 ?_
    refine s_goto (pc := 234) hF 238 dX3_reach_234 rfl ?_
    exact SK.sb (gX3_reach_J238 hF hr127 l0 l1 l3 (mn l2 (v1 - (1 : Int32))) M z) ⟨rfl, ⟨rfl, ⟨rfl, trivial⟩⟩⟩

def fX3_reach_L127 : Nat → Option Nat → Int32 → Int32 → Int32 → Mp → Nat → Rs Int32
  | 0, _, _, _, _, _, _ => none
  | fu + 1, l0, l1, l2, l3, M, z => (gr M l0 [3] 13).bind fun v1 =>
(gr M v1 [0] 1).bind fun v2 =>
if ckc M v2 [11] = true then
  (cb (fJ2_size v2 M z) z fun v3 M4 z5 =>
if l3 < v3 then
  ((gr M4 l0 [3] 13).bind fun v7 =>
(gr M4 v7 [0] 1).bind fun v8 =>
if ckc M4 v8 [11] = true then
  (cb (fJ2_get v8 l3 M4 z5) z5 fun v9 M10 z11 =>
if cst M10 v9 [4] = true then
  ((gi M10 v9 [4] 1).bind fun v12 =>
if v12 = (1 : Int32) then
  ((gi M10 v9 [4] 0).bind fun v13 =>
(gi M10 l0 [3] 1).bind fun v14 =>
if v13 = v14 then
  ((gi M10 v9 [4] 3).bind fun v15 =>
(gi M10 v9 [4] 4).bind fun v16 =>
cb (fX0_in l1 v15 v16 M10 z11) z11 fun v17 M18 z19 =>
if v17 = 0 then
  (fX3_reach_J216 (fX3_reach_L127 fu) l0 l1 l2 l3 v9 (0 : Int32) M18 z19)
else
  ((gi M18 v9 [4] 2).bind fun v20 =>
(gi M18 l0 [3] 6).bind fun v21 =>
if v21 < v20 then
  (fX3_reach_J216 (fX3_reach_L127 fu) l0 l1 l2 l3 v9 (1 : Int32) M18 z19)
else
  (fX3_reach_J216 (fX3_reach_L127 fu) l0 l1 l2 l3 v9 (0 : Int32) M18 z19)))
else
  (fX3_reach_J216 (fX3_reach_L127 fu) l0 l1 l2 l3 v9 (0 : Int32) M10 z11))
else
  (fX3_reach_J216 (fX3_reach_L127 fu) l0 l1 l2 l3 v9 (0 : Int32) M10 z11))
else none)
else none)
else
  ((gi M4 l0 [3] 6).bind fun v6 =>
if v6 < l2 then
  (some (l2, M4, 0, 0))
else
  (some ((-9 : Int32), M4, 0, 0))))
else none

theorem gX3_reach_L127 {G : Cx} {F : Option Value × Mp × Nat} (hF : FX G cX3_reach 6 RX3 (Option.some Jvm.ClassFile.FieldType.int) "reach" 5 114) : ∀ (fu : Nat) (l0 : Option Nat) (l1 : Int32) (l2 : Int32) (l3 : Int32) (M : Mp) (z : Nat), SK G F 6 eI 127 [some (va_rf l0), some (.int l1), some (.int l2), some (.int l3), none, none] [] M z (fX3_reach_L127 fu l0 l1 l2 l3 M z) := by
  intro fu
  induction fu with
  | zero => intros; exact SK.fail
  | succ fu ih =>
    intro l0 l1 l2 l3 M z
    rw [fX3_reach_L127]
    refine s_iload_n (pc := 127) hF dX3_reach_127 rfl rfl ?_
    refine s_aload_n (pc := 128) hF dX3_reach_128 rfl rfl ?_
    refine s_getr (pc := 129) hF (fl_X3_3 hF) dX3_reach_129 (fun v1 => ?_)
    refine s_getr (pc := 132) hF (fl_X3_63 hF) dX3_reach_132 (fun v2 => ?_)
    refine s_callF (pc := 135) (As := []) (st := [.int l3]) (stf := fun r9 => .int r9 :: [.int l3]) (x := ⟨"java/util/List", "size", "()I"⟩) hF (mJ2_size v2) cw_J2_size rfl ⟨by decide, by decide⟩ q660 q158 n_q154 n_q153 n_q159 (List.forall_mem_cons.mpr ⟨⟨(RJ2, TJ2, 3), rfl, q156, n_q157, n_q155⟩, fun _ h9 => absurd h9 List.not_mem_nil⟩) rfl ⟨Nat.le_of_ble_eq_true rfl, Nat.le_of_ble_eq_true rfl⟩ ⟨⟨rfl, trivial⟩, Nat.le_of_ble_eq_true rfl⟩ dX3_reach_135 rfl (fun _ => rfl) (fun v3 M4 z5 => ?_)
    refine s_icmp_ge (pc := 140) hF 245 dX3_reach_140 rfl ?_ ?_
    · refine s_iload_n (pc := 245) hF dX3_reach_245 rfl rfl ?_
      refine s_aload_n (pc := 246) hF dX3_reach_246 rfl rfl ?_
      refine s_geti (pc := 247) hF (fl_X3_19 hF) dX3_reach_247 (fun v6 => ?_)
      refine s_icmp_le (pc := 250) hF 257 dX3_reach_250 rfl ?_ ?_
      · refine s_bipush (pc := 257) hF dX3_reach_257 (-9 : Int32) (by decide) ?_
        exact s_iret (pc := 259) hF dX3_reach_259
      · refine s_iload_n (pc := 253) hF dX3_reach_253 rfl rfl ?_
        refine s_goto (pc := 254) hF 259 dX3_reach_254 rfl ?_
        exact s_iret (pc := 259) hF dX3_reach_259
    · refine s_aload_n (pc := 143) hF dX3_reach_143 rfl rfl ?_
      refine s_getr (pc := 144) hF (fl_X3_3 hF) dX3_reach_144 (fun v7 => ?_)
      refine s_getr (pc := 147) hF (fl_X3_63 hF) dX3_reach_147 (fun v8 => ?_)
      refine s_iload_n (pc := 150) hF dX3_reach_150 rfl rfl ?_
      refine s_callF (pc := 151) (As := [.int l3]) (st := []) (stf := fun r9 => va_rf r9 :: []) (x := ⟨"java/util/List", "get", "(I)Ljava/lang/Object;"⟩) hF (mJ2_get v8 l3) cw_J2_get rfl ⟨by decide, by decide⟩ q662 q356 n_q353 n_q352 n_q357 (List.forall_mem_cons.mpr ⟨⟨(RJ2, TJ2, 3), rfl, q354, n_q355, n_q155⟩, fun _ h9 => absurd h9 List.not_mem_nil⟩) rfl ⟨Nat.le_of_ble_eq_true rfl, Nat.le_of_ble_eq_true rfl⟩ ⟨trivial, Nat.le_of_ble_eq_true rfl⟩ dX3_reach_151 rfl (fun _ => rfl) (fun v9 M10 z11 => ?_)
      refine s_cast (pc := 156) hF q665 (List.forall_mem_cons.mpr ⟨⟨(RX4, TX4, 5), rfl, Or.inl rfl⟩, fun _ h9 => absurd h9 List.not_mem_nil⟩) dX3_reach_156 ?_
      refine s_astore (L9 := [some (va_rf l0), some (.int l1), some (.int l2), some (.int l3), some (va_rf v9), none]) (pc := 159) hF dX3_reach_159 (Nat.le_of_ble_eq_true rfl) rfl ?_
      refine s_aload (pc := 161) hF dX3_reach_161 rfl ?_
      refine s_geti (pc := 163) hF (fl_X3_68 hF) dX3_reach_163 (fun v12 => ?_)
      refine s_iconst (pc := 166) hF dX3_reach_166 (1 : Int32) (by decide) ?_
      refine s_icmp_ne (pc := 167) hF 215 dX3_reach_167 rfl ?_ ?_
      · refine s_iconst (pc := 215) hF dX3_reach_215 (0 : Int32) (by decide) ?_
        exact SK.sb (gX3_reach_J216 hF ih l0 l1 l2 l3 v9 (0 : Int32) M10 z11) ⟨rfl, ⟨rfl, ⟨rfl, ⟨rfl, ⟨rfl, trivial⟩⟩⟩⟩⟩
      · refine s_aload (pc := 170) hF dX3_reach_170 rfl ?_
        refine s_geti (pc := 172) hF (fl_X3_71 hF) dX3_reach_172 (fun v13 => ?_)
        refine s_aload_n (pc := 175) hF dX3_reach_175 rfl rfl ?_
        refine s_geti (pc := 176) hF (fl_X3_26 hF) dX3_reach_176 (fun v14 => ?_)
        refine s_icmp_ne (pc := 179) hF 215 dX3_reach_179 rfl ?_ ?_
        · refine s_iconst (pc := 215) hF dX3_reach_215 (0 : Int32) (by decide) ?_
          exact SK.sb (gX3_reach_J216 hF ih l0 l1 l2 l3 v9 (0 : Int32) M10 z11) ⟨rfl, ⟨rfl, ⟨rfl, ⟨rfl, ⟨rfl, trivial⟩⟩⟩⟩⟩
        · refine s_iload_n (pc := 182) hF dX3_reach_182 rfl rfl ?_
          refine s_aload (pc := 183) hF dX3_reach_183 rfl ?_
          refine s_geti (pc := 185) hF (fl_X3_72 hF) dX3_reach_185 (fun v15 => ?_)
          refine s_aload (pc := 188) hF dX3_reach_188 rfl ?_
          refine s_geti (pc := 190) hF (fl_X3_75 hF) dX3_reach_190 (fun v16 => ?_)
          refine s_callM (pc := 193) (As := [.int l1, .int v15, .int v16]) (st := []) (stf := fun r9 => .int r9 :: []) hF (mX0_in l1 v15 v16) cw_X0_in n_q666 q146 rfl ⟨Nat.le_of_ble_eq_true rfl, Nat.le_of_ble_eq_true rfl⟩ ⟨trivial, Nat.le_of_ble_eq_true rfl⟩ dX3_reach_193 rfl (fun _ => rfl) (fun v17 M18 z19 => ?_)
          refine s_if_eq (pc := 196) hF 215 dX3_reach_196 rfl ?_ ?_
          · refine s_iconst (pc := 215) hF dX3_reach_215 (0 : Int32) (by decide) ?_
            exact SK.sb (gX3_reach_J216 hF ih l0 l1 l2 l3 v9 (0 : Int32) M18 z19) ⟨rfl, ⟨rfl, ⟨rfl, ⟨rfl, ⟨rfl, trivial⟩⟩⟩⟩⟩
          · refine s_aload (pc := 199) hF dX3_reach_199 rfl ?_
            refine s_geti (pc := 201) hF (fl_X3_82 hF) dX3_reach_201 (fun v20 => ?_)
            refine s_aload_n (pc := 204) hF dX3_reach_204 rfl rfl ?_
            refine s_geti (pc := 205) hF (fl_X3_19 hF) dX3_reach_205 (fun v21 => ?_)
            refine s_icmp_le (pc := 208) hF 215 dX3_reach_208 rfl ?_ ?_
            · refine s_iconst (pc := 215) hF dX3_reach_215 (0 : Int32) (by decide) ?_
              exact SK.sb (gX3_reach_J216 hF ih l0 l1 l2 l3 v9 (0 : Int32) M18 z19) ⟨rfl, ⟨rfl, ⟨rfl, ⟨rfl, ⟨rfl, trivial⟩⟩⟩⟩⟩
            · refine s_iconst (pc := 211) hF dX3_reach_211 (1 : Int32) (by decide) ?_
              refine s_goto (pc := 212) hF 216 dX3_reach_212 rfl ?_
              exact SK.sb (gX3_reach_J216 hF ih l0 l1 l2 l3 v9 (1 : Int32) M18 z19) ⟨rfl, ⟨rfl, ⟨rfl, ⟨rfl, ⟨rfl, trivial⟩⟩⟩⟩⟩

def fX3_reach_J118 (r16 : Option Nat → Int32 → Int32 → Int32 → Mp → Nat → Rs Int32) (l0 : Option Nat) (l1 : Int32) (l3 : Int32) (s0 : Int32) (M : Mp) (z : Nat) : Rs Int32 := r16 l0 l1 s0 (l3 + 1) M z

theorem gX3_reach_J118 {G : Cx} {F : Option Value × Mp × Nat}  {r16 : Option Nat → Int32 → Int32 → Int32 → Mp → Nat → Rs Int32}(hF : FX G cX3_reach 6 RX3 (Option.some Jvm.ClassFile.FieldType.int) "reach" 5 114) (hr16 : ∀ l0 l1 l2 l3 M z, SK G F 6 eI 16 [some (va_rf l0), some (.int l1), some (.int l2), some (.int l3), none, none] [] M z (r16 l0 l1 l2 l3 M z)) (l0 : Option Nat) (l1 : Int32) (l3 : Int32) (s0 : Int32) (M : Mp) (z : Nat) : SK G F 6 eI 118 [some (va_rf l0), some (.int l1), none, some (.int l3), none, none] [.int s0] M z (fX3_reach_J118 r16 l0 l1 l3 s0 M z) := by
  unfold fX3_reach_J118
  refine s_istore_n (L9 := [some (va_rf l0), some (.int l1), some (.int s0), some (.int l3), none, none]) (pc := 118) hF dX3_reach_118 rfl (Nat.le_of_ble_eq_true rfl) rfl ?_
  refine s_iinc (v := l3 + 1) (L9 := [some (va_rf l0), some (.int l1), some (.int s0), some (.int (l3 + 1)), none, none]) (pc := 119) hF dX3_reach_119 rfl rfl (Nat.le_of_ble_eq_true rfl) rfl ?_
  refine s_goto (pc := 122) hF 16 dX3_reach_122 rfl ?_
  exact SK.sb (hr16 l0 l1 s0 (l3 + 1) M z) ⟨rfl, ⟨rfl, ⟨rfl, ⟨rfl, trivial⟩⟩⟩⟩

def fX3_reach_J96 (r16 : Option Nat → Int32 → Int32 → Int32 → Mp → Nat → Rs Int32) (l0 : Option Nat) (l1 : Int32) (l2 : Int32) (l3 : Int32) (l4 : Option Nat) (s0 : Int32) (M : Mp) (z : Nat) : Rs Int32 := if s0 = 0 then
  (fX3_reach_J118 r16 l0 l1 l3 l2 M z)
else
  ((gi M l4 [2, 3] 5).bind fun v1 =>
fX3_reach_J118 r16 l0 l1 l3 (mn l2 (v1 - (1 : Int32))) M z)

theorem gX3_reach_J96 {G : Cx} {F : Option Value × Mp × Nat}  {r16 : Option Nat → Int32 → Int32 → Int32 → Mp → Nat → Rs Int32}(hF : FX G cX3_reach 6 RX3 (Option.some Jvm.ClassFile.FieldType.int) "reach" 5 114) (hr16 : ∀ l0 l1 l2 l3 M z, SK G F 6 eI 16 [some (va_rf l0), some (.int l1), some (.int l2), some (.int l3), none, none] [] M z (r16 l0 l1 l2 l3 M z)) (l0 : Option Nat) (l1 : Int32) (l2 : Int32) (l3 : Int32) (l4 : Option Nat) (s0 : Int32) (M : Mp) (z : Nat) : SK G F 6 eI 96 [some (va_rf l0), some (.int l1), some (.int l2), some (.int l3), some (va_rf l4), none] [.int s0] M z (fX3_reach_J96 r16 l0 l1 l2 l3 l4 s0 M z) := by
  unfold fX3_reach_J96
  refine s_istore (L9 := [some (va_rf l0), some (.int l1), some (.int l2), some (.int l3), some (va_rf l4), some (.int s0)]) (pc := 96) hF dX3_reach_96 (Nat.le_of_ble_eq_true rfl) rfl ?_
  refine s_iload (pc := 98) hF dX3_reach_98 rfl ?_
  refine s_if_eq (pc := 100) hF 117 dX3_reach_100 rfl ?_ ?_
  · refine s_iload_n (pc := 117) hF dX3_reach_117 rfl rfl ?_
    exact SK.sb (gX3_reach_J118 hF hr16 l0 l1 l3 l2 M z) ⟨rfl, ⟨rfl, ⟨rfl, trivial⟩⟩⟩
  · refine s_iload_n (pc := 103) hF dX3_reach_103 rfl rfl ?_
    refine s_aload (pc := 104) hF dX3_reach_104 rfl ?_
    refine s_geti (pc := 106) hF (fl_X3_54 hF) dX3_reach_106 (fun v1 => ?_)
    refine s_iconst (pc := 109) hF dX3_reach_109 (1 : Int32) (by decide) ?_
    refine s_isub (pc := 110) hF dX3_reach_110 ?_
    refine s_min (pc := 111) hF q664 ⟨Nat.le_of_ble_eq_true rfl, Nat.le_of_ble_eq_true rfl⟩ ⟨trivial, Nat.le_of_ble_eq_true rfl⟩ dX3_reach_111 ?_
    refine s_goto (pc := 114) hF 118 dX3_reach_114 rfl ?_
    exact SK.sb (gX3_reach_J118 hF hr16 l0 l1 l3 (mn l2 (v1 - (1 : Int32))) M z) ⟨rfl, ⟨rfl, ⟨rfl, trivial⟩⟩⟩

def fX3_reach_L16 : Nat → Option Nat → Int32 → Int32 → Int32 → Mp → Nat → Rs Int32
  | 0, _, _, _, _, _, _ => none
  | fu + 1, l0, l1, l2, l3, M, z => (gr M l0 [3] 13).bind fun v1 =>
(gr M v1 [0] 0).bind fun v2 =>
if ckc M v2 [11] = true then
  (cb (fJ2_size v2 M z) z fun v3 M4 z5 =>
if l3 < v3 then
  ((gr M4 l0 [3] 13).bind fun v6 =>
(gr M4 v6 [0] 0).bind fun v7 =>
if ckc M4 v7 [11] = true then
  (cb (fJ2_get v7 l3 M4 z5) z5 fun v8 M9 z10 =>
if cst M9 v8 [2, 3] = true then
  ((gi M9 v8 [2, 3] 2).bind fun v11 =>
if v11 = 0 then
  ((gi M9 v8 [2, 3] 1).bind fun v12 =>
(gi M9 l0 [3] 1).bind fun v13 =>
if v12 = v13 then
  (if ckc M9 v8 [2, 3] = true then
  (cb (fX11_hasColumn v8 l1 M9 z10) z10 fun v14 M15 z16 =>
if v14 = 0 then
  (fX3_reach_J96 (fX3_reach_L16 fu) l0 l1 l2 l3 v8 (0 : Int32) M15 z16)
else
  ((gi M15 v8 [2, 3] 5).bind fun v17 =>
(gi M15 l0 [3] 6).bind fun v18 =>
if v18 < v17 then
  (fX3_reach_J96 (fX3_reach_L16 fu) l0 l1 l2 l3 v8 (1 : Int32) M15 z16)
else
  (fX3_reach_J96 (fX3_reach_L16 fu) l0 l1 l2 l3 v8 (0 : Int32) M15 z16)))
else none)
else
  (fX3_reach_J96 (fX3_reach_L16 fu) l0 l1 l2 l3 v8 (0 : Int32) M9 z10))
else
  (fX3_reach_J96 (fX3_reach_L16 fu) l0 l1 l2 l3 v8 (0 : Int32) M9 z10))
else none)
else none)
else
  (fX3_reach_L127 FU l0 l1 l2 (0 : Int32) M4 z5))
else none

theorem gX3_reach_L16 {G : Cx} {F : Option Value × Mp × Nat} (hF : FX G cX3_reach 6 RX3 (Option.some Jvm.ClassFile.FieldType.int) "reach" 5 114) : ∀ (fu : Nat) (l0 : Option Nat) (l1 : Int32) (l2 : Int32) (l3 : Int32) (M : Mp) (z : Nat), SK G F 6 eI 16 [some (va_rf l0), some (.int l1), some (.int l2), some (.int l3), none, none] [] M z (fX3_reach_L16 fu l0 l1 l2 l3 M z) := by
  intro fu
  induction fu with
  | zero => intros; exact SK.fail
  | succ fu ih =>
    intro l0 l1 l2 l3 M z
    rw [fX3_reach_L16]
    refine s_iload_n (pc := 16) hF dX3_reach_16 rfl rfl ?_
    refine s_aload_n (pc := 17) hF dX3_reach_17 rfl rfl ?_
    refine s_getr (pc := 18) hF (fl_X3_3 hF) dX3_reach_18 (fun v1 => ?_)
    refine s_getr (pc := 21) hF (fl_X3_36 hF) dX3_reach_21 (fun v2 => ?_)
    refine s_callF (pc := 24) (As := []) (st := [.int l3]) (stf := fun r9 => .int r9 :: [.int l3]) (x := ⟨"java/util/List", "size", "()I"⟩) hF (mJ2_size v2) cw_J2_size rfl ⟨by decide, by decide⟩ q660 q158 n_q154 n_q153 n_q159 (List.forall_mem_cons.mpr ⟨⟨(RJ2, TJ2, 3), rfl, q156, n_q157, n_q155⟩, fun _ h9 => absurd h9 List.not_mem_nil⟩) rfl ⟨Nat.le_of_ble_eq_true rfl, Nat.le_of_ble_eq_true rfl⟩ ⟨⟨rfl, trivial⟩, Nat.le_of_ble_eq_true rfl⟩ dX3_reach_24 rfl (fun _ => rfl) (fun v3 M4 z5 => ?_)
    refine s_icmp_ge (pc := 29) hF 125 dX3_reach_29 rfl ?_ ?_
    · refine s_iconst (pc := 125) hF dX3_reach_125 (0 : Int32) (by decide) ?_
      refine s_istore_n (L9 := [some (va_rf l0), some (.int l1), some (.int l2), some (.int (0 : Int32)), none, none]) (pc := 126) hF dX3_reach_126 rfl (Nat.le_of_ble_eq_true rfl) rfl ?_
      exact SK.sb (gX3_reach_L127 hF FU l0 l1 l2 (0 : Int32) M4 z5) ⟨rfl, ⟨rfl, ⟨rfl, ⟨rfl, trivial⟩⟩⟩⟩
    · refine s_aload_n (pc := 32) hF dX3_reach_32 rfl rfl ?_
      refine s_getr (pc := 33) hF (fl_X3_3 hF) dX3_reach_33 (fun v6 => ?_)
      refine s_getr (pc := 36) hF (fl_X3_36 hF) dX3_reach_36 (fun v7 => ?_)
      refine s_iload_n (pc := 39) hF dX3_reach_39 rfl rfl ?_
      refine s_callF (pc := 40) (As := [.int l3]) (st := []) (stf := fun r9 => va_rf r9 :: []) (x := ⟨"java/util/List", "get", "(I)Ljava/lang/Object;"⟩) hF (mJ2_get v7 l3) cw_J2_get rfl ⟨by decide, by decide⟩ q662 q356 n_q353 n_q352 n_q357 (List.forall_mem_cons.mpr ⟨⟨(RJ2, TJ2, 3), rfl, q354, n_q355, n_q155⟩, fun _ h9 => absurd h9 List.not_mem_nil⟩) rfl ⟨Nat.le_of_ble_eq_true rfl, Nat.le_of_ble_eq_true rfl⟩ ⟨trivial, Nat.le_of_ble_eq_true rfl⟩ dX3_reach_40 rfl (fun _ => rfl) (fun v8 M9 z10 => ?_)
      refine s_cast (pc := 45) hF q663 (List.forall_mem_cons.mpr ⟨⟨(RX2, TX2, 13), rfl, Or.inl rfl⟩, List.forall_mem_cons.mpr ⟨⟨(RX3, TX3, 14), rfl, Or.inr n_q1359⟩, fun _ h9 => absurd h9 List.not_mem_nil⟩⟩) dX3_reach_45 ?_
      refine s_astore (L9 := [some (va_rf l0), some (.int l1), some (.int l2), some (.int l3), some (va_rf v8), none]) (pc := 48) hF dX3_reach_48 (Nat.le_of_ble_eq_true rfl) rfl ?_
      refine s_aload (pc := 50) hF dX3_reach_50 rfl ?_
      refine s_geti (pc := 52) hF (fl_X3_50 hF) dX3_reach_52 (fun v11 => ?_)
      refine s_if_ne (pc := 55) hF 95 dX3_reach_55 rfl ?_ ?_
      · refine s_iconst (pc := 95) hF dX3_reach_95 (0 : Int32) (by decide) ?_
        exact SK.sb (gX3_reach_J96 hF ih l0 l1 l2 l3 v8 (0 : Int32) M9 z10) ⟨rfl, ⟨rfl, ⟨rfl, ⟨rfl, ⟨rfl, trivial⟩⟩⟩⟩⟩
      · refine s_aload (pc := 58) hF dX3_reach_58 rfl ?_
        refine s_geti (pc := 60) hF (fl_X3_53 hF) dX3_reach_60 (fun v12 => ?_)
        refine s_aload_n (pc := 63) hF dX3_reach_63 rfl rfl ?_
        refine s_geti (pc := 64) hF (fl_X3_26 hF) dX3_reach_64 (fun v13 => ?_)
        refine s_icmp_ne (pc := 67) hF 95 dX3_reach_67 rfl ?_ ?_
        · refine s_iconst (pc := 95) hF dX3_reach_95 (0 : Int32) (by decide) ?_
          exact SK.sb (gX3_reach_J96 hF ih l0 l1 l2 l3 v8 (0 : Int32) M9 z10) ⟨rfl, ⟨rfl, ⟨rfl, ⟨rfl, ⟨rfl, trivial⟩⟩⟩⟩⟩
        · refine s_aload (pc := 70) hF dX3_reach_70 rfl ?_
          refine s_iload_n (pc := 72) hF dX3_reach_72 rfl rfl ?_
          refine s_callD (pc := 73) (As := [.int l1]) (st := []) (stf := fun r9 => .int r9 :: []) hF (mX11_hasColumn v8 l1) q631 q629 n_d6 n_d3 (fun _ _ _ _ h => h.2.2.2.2.2.2.2.1) (by show _ = some 1; decide +kernel) ⟨Nat.le_of_ble_eq_true rfl, Nat.le_of_ble_eq_true rfl⟩ ⟨trivial, Nat.le_of_ble_eq_true rfl⟩ dX3_reach_73 rfl (fun _ => rfl) (fun v14 M15 z16 => ?_)
          refine s_if_eq (pc := 76) hF 95 dX3_reach_76 rfl ?_ ?_
          · refine s_iconst (pc := 95) hF dX3_reach_95 (0 : Int32) (by decide) ?_
            exact SK.sb (gX3_reach_J96 hF ih l0 l1 l2 l3 v8 (0 : Int32) M15 z16) ⟨rfl, ⟨rfl, ⟨rfl, ⟨rfl, ⟨rfl, trivial⟩⟩⟩⟩⟩
          · refine s_aload (pc := 79) hF dX3_reach_79 rfl ?_
            refine s_geti (pc := 81) hF (fl_X3_54 hF) dX3_reach_81 (fun v17 => ?_)
            refine s_aload_n (pc := 84) hF dX3_reach_84 rfl rfl ?_
            refine s_geti (pc := 85) hF (fl_X3_19 hF) dX3_reach_85 (fun v18 => ?_)
            refine s_icmp_le (pc := 88) hF 95 dX3_reach_88 rfl ?_ ?_
            · refine s_iconst (pc := 95) hF dX3_reach_95 (0 : Int32) (by decide) ?_
              exact SK.sb (gX3_reach_J96 hF ih l0 l1 l2 l3 v8 (0 : Int32) M15 z16) ⟨rfl, ⟨rfl, ⟨rfl, ⟨rfl, ⟨rfl, trivial⟩⟩⟩⟩⟩
            · refine s_iconst (pc := 91) hF dX3_reach_91 (1 : Int32) (by decide) ?_
              refine s_goto (pc := 92) hF 96 dX3_reach_92 rfl ?_
              exact SK.sb (gX3_reach_J96 hF ih l0 l1 l2 l3 v8 (1 : Int32) M15 z16) ⟨rfl, ⟨rfl, ⟨rfl, ⟨rfl, ⟨rfl, trivial⟩⟩⟩⟩⟩
def fX3_reach (a0 : Option Nat) (a1 : Int32) (M : Mp) (z : Nat) : Rs Int32 := if ckc M a0 [3] = true then
  (cb (fX3_reachesAcross a0 a1 M z) z fun v1 M2 z3 =>
if v1 = 0 then
  (some ((-9 : Int32), M2, 0, 0))
else
  (fX3_reach_L16 FU a0 a1 (29 : Int32) (0 : Int32) M2 z3))
else none
theorem gX3_reach {G : Cx} {F : Option Value × Mp × Nat} (hF : FX G cX3_reach 6 RX3 (Option.some Jvm.ClassFile.FieldType.int) "reach" 5 114) (a0 : Option Nat) (a1 : Int32) (M : Mp) (z : Nat) : SK G F 6 eI 0 [some (va_rf a0), some (.int a1), none, none, none, none] [] M z (fX3_reach a0 a1 M z) := by
  unfold fX3_reach
  refine s_aload_n (pc := 0) hF dX3_reach_0 rfl rfl ?_
  refine s_iload_n (pc := 1) hF dX3_reach_1 rfl rfl ?_
  refine s_callV (pc := 2) (As := [.int a1]) (st := []) (stf := fun r9 => .int r9 :: []) hF (mX3_reachesAcross a0 a1) cw_X3_reachesAcross q647 q648 (List.forall_mem_cons.mpr ⟨⟨(RX3, TX3, 14), rfl, q649⟩, fun _ h9 => absurd h9 List.not_mem_nil⟩) rfl ⟨Nat.le_of_ble_eq_true rfl, Nat.le_of_ble_eq_true rfl⟩ ⟨trivial, Nat.le_of_ble_eq_true rfl⟩ dX3_reach_2 rfl (fun _ => rfl) (fun v1 M2 z3 => ?_)
  refine s_if_ne (pc := 5) hF 11 dX3_reach_5 rfl ?_ ?_
  · refine s_bipush (pc := 11) hF dX3_reach_11 (29 : Int32) (by decide) ?_
    refine s_istore_n (L9 := [some (va_rf a0), some (.int a1), some (.int (29 : Int32)), none, none, none]) (pc := 13) hF dX3_reach_13 rfl (Nat.le_of_ble_eq_true rfl) rfl ?_
    refine s_iconst (pc := 14) hF dX3_reach_14 (0 : Int32) (by decide) ?_
    refine s_istore_n (L9 := [some (va_rf a0), some (.int a1), some (.int (29 : Int32)), some (.int (0 : Int32)), none, none]) (pc := 15) hF dX3_reach_15 rfl (Nat.le_of_ble_eq_true rfl) rfl ?_
    exact SK.sb (gX3_reach_L16 hF FU a0 a1 (29 : Int32) (0 : Int32) M2 z3) ⟨rfl, ⟨rfl, ⟨rfl, ⟨rfl, trivial⟩⟩⟩⟩
  · refine s_bipush (pc := 8) hF dX3_reach_8 (-9 : Int32) (by decide) ?_
    exact s_iret (pc := 10) hF dX3_reach_10
theorem mX3_reach (a0 : Option Nat) (a1 : Int32) : MT yX3_reach cX3_reach 6 (Option.some Jvm.ClassFile.FieldType.int) 5 114 eI [va_rf a0, .int a1] (fX3_reach a0 a1) :=
  MT.of (L0 := [some (va_rf a0), some (.int a1), none, none, none, none]) (by decide) ⟨ct _, ⟨rfl, trivial⟩⟩ (Nat.le_of_ble_eq_true rfl) rfl (fun _ _ hF M z => gX3_reach hF a0 a1 M z)

theorem cw_X3_reach : CWm yX3_reach cX3_reach 6 (Option.some Jvm.ClassFile.FieldType.int) 1 := ⟨q646, q65, by decide +kernel, by decide +kernel, by decide +kernel⟩
def fX0_reach (a0 : Option Nat) (a1 : Int32) (a2 : Int32) (M : Mp) (z : Nat) : Rs Int32 := if ckc M a0 [0] = true then
  (cb (fX0_isBlock a0 a1 M z) z fun v1 M2 z3 =>
if v1 = 0 then
  (some ((-1 : Int32), M2, 0, 0))
else
  ((gr M2 a0 [0] 0).bind fun v4 =>
if ckc M2 v4 [11] = true then
  (cb (fJ2_get v4 a1 M2 z3) z3 fun v5 M6 z7 =>
if cst M6 v5 [2, 3] = true then
  ((gi M6 v5 [2, 3] 2).bind fun v8 =>
if v8 = 0 then
  (cb (fX0_in a2 (0 : Int32) (7 : Int32) M6 z7) z7 fun v9 M10 z11 =>
if v9 = 0 then
  (some ((-2 : Int32), M10, 0, 0))
else
  ((gr M10 a0 [0] 0).bind fun v12 =>
if ckc M10 v12 [11] = true then
  (cb (fJ2_get v12 a1 M10 z11) z11 fun v13 M14 z15 =>
(isH M14 v13).bind fun v16 =>
if v16 = 0 then
  (some ((-9 : Int32), M14, 0, 0))
else
  (if cst M14 v13 [3] = true then
  (if ckc M14 v13 [3] = true then
  (cb (fX3_reach v13 a2 M14 z15) z15 fun v17 M18 z19 =>
some (v17, M18, 0, 0))
else none)
else none))
else none))
else
  (some ((-1 : Int32), M6, 0, 0)))
else none)
else none))
else none
theorem gX0_reach {G : Cx} {F : Option Value × Mp × Nat} (hF : FX G cX0_reach 5 RX0 (Option.some Jvm.ClassFile.FieldType.int) "reach" 6 139) (a0 : Option Nat) (a1 : Int32) (a2 : Int32) (M : Mp) (z : Nat) : SK G F 5 eI 0 [some (va_rf a0), some (.int a1), some (.int a2), none, none] [] M z (fX0_reach a0 a1 a2 M z) := by
  unfold fX0_reach
  refine s_aload_n (pc := 0) hF dX0_reach_0 rfl rfl ?_
  refine s_iload_n (pc := 1) hF dX0_reach_1 rfl rfl ?_
  refine s_callV (pc := 2) (As := [.int a1]) (st := []) (stf := fun r9 => .int r9 :: []) hF (mX0_isBlock a0 a1) cw_X0_isBlock q518 q520 (List.forall_mem_cons.mpr ⟨⟨(RX0, TX0, 6), rfl, qs5⟩, fun _ h9 => absurd h9 List.not_mem_nil⟩) rfl ⟨Nat.le_of_ble_eq_true rfl, Nat.le_of_ble_eq_true rfl⟩ ⟨trivial, Nat.le_of_ble_eq_true rfl⟩ dX0_reach_2 rfl (fun _ => rfl) (fun v1 M2 z3 => ?_)
  refine s_if_eq (pc := 5) hF 27 dX0_reach_5 rfl ?_ ?_
  · refine s_iconst (pc := 27) hF dX0_reach_27 (-1 : Int32) (by decide) ?_
    exact s_iret (pc := 28) hF dX0_reach_28
  · refine s_aload_n (pc := 8) hF dX0_reach_8 rfl rfl ?_
    refine s_getr (pc := 9) hF (fl_X0_14 hF) dX0_reach_9 (fun v4 => ?_)
    refine s_iload_n (pc := 12) hF dX0_reach_12 rfl rfl ?_
    refine s_callF (pc := 13) (As := [.int a1]) (st := []) (stf := fun r9 => va_rf r9 :: []) (x := ⟨"java/util/List", "get", "(I)Ljava/lang/Object;"⟩) hF (mJ2_get v4 a1) cw_J2_get rfl ⟨by decide, by decide⟩ q523 q356 n_q353 n_q352 n_q357 (List.forall_mem_cons.mpr ⟨⟨(RJ2, TJ2, 3), rfl, q354, n_q355, n_q155⟩, fun _ h9 => absurd h9 List.not_mem_nil⟩) rfl ⟨Nat.le_of_ble_eq_true rfl, Nat.le_of_ble_eq_true rfl⟩ ⟨trivial, Nat.le_of_ble_eq_true rfl⟩ dX0_reach_13 rfl (fun _ => rfl) (fun v5 M6 z7 => ?_)
    refine s_cast (pc := 18) hF q252 (List.forall_mem_cons.mpr ⟨⟨(RX2, TX2, 13), rfl, Or.inl rfl⟩, List.forall_mem_cons.mpr ⟨⟨(RX3, TX3, 14), rfl, Or.inr n_q1359⟩, fun _ h9 => absurd h9 List.not_mem_nil⟩⟩) dX0_reach_18 ?_
    refine s_geti (pc := 21) hF (fl_X0_134 hF) dX0_reach_21 (fun v8 => ?_)
    refine s_if_eq (pc := 24) hF 29 dX0_reach_24 rfl ?_ ?_
    · refine s_iload_n (pc := 29) hF dX0_reach_29 rfl rfl ?_
      refine s_iconst (pc := 30) hF dX0_reach_30 (0 : Int32) (by decide) ?_
      refine s_bipush (pc := 31) hF dX0_reach_31 (7 : Int32) (by decide) ?_
      refine s_callS (pc := 33) (As := [.int a2, .int (0 : Int32), .int (7 : Int32)]) (st := []) (stf := fun r9 => .int r9 :: []) hF (mX0_in a2 (0 : Int32) (7 : Int32)) cw_X0_in q145 q146 rfl ⟨Nat.le_of_ble_eq_true rfl, Nat.le_of_ble_eq_true rfl⟩ ⟨trivial, Nat.le_of_ble_eq_true rfl⟩ dX0_reach_33 rfl (fun _ => rfl) (fun v9 M10 z11 => ?_)
      refine s_if_ne (pc := 36) hF 42 dX0_reach_36 rfl ?_ ?_
      · refine s_aload_n (pc := 42) hF dX0_reach_42 rfl rfl ?_
        refine s_getr (pc := 43) hF (fl_X0_14 hF) dX0_reach_43 (fun v12 => ?_)
        refine s_iload_n (pc := 46) hF dX0_reach_46 rfl rfl ?_
        refine s_callF (pc := 47) (As := [.int a1]) (st := []) (stf := fun r9 => va_rf r9 :: []) (x := ⟨"java/util/List", "get", "(I)Ljava/lang/Object;"⟩) hF (mJ2_get v12 a1) cw_J2_get rfl ⟨by decide, by decide⟩ q523 q356 n_q353 n_q352 n_q357 (List.forall_mem_cons.mpr ⟨⟨(RJ2, TJ2, 3), rfl, q354, n_q355, n_q155⟩, fun _ h9 => absurd h9 List.not_mem_nil⟩) rfl ⟨Nat.le_of_ble_eq_true rfl, Nat.le_of_ble_eq_true rfl⟩ ⟨trivial, Nat.le_of_ble_eq_true rfl⟩ dX0_reach_47 rfl (fun _ => rfl) (fun v13 M14 z15 => ?_)
        refine s_astore (L9 := [some (va_rf a0), some (.int a1), some (.int a2), none, some (va_rf v13)]) (pc := 52) hF dX0_reach_52 (Nat.le_of_ble_eq_true rfl) rfl ?_
        refine s_aload (pc := 54) hF dX0_reach_54 rfl ?_
        refine s_inst (pc := 56) hF q161 dX0_reach_56 (fun v16 => ?_)
        refine s_if_eq (pc := 59) hF 76 dX0_reach_59 rfl ?_ ?_
        · refine s_bipush (pc := 76) hF dX0_reach_76 (-9 : Int32) (by decide) ?_
          exact s_iret (pc := 78) hF dX0_reach_78
        · refine s_aload (pc := 62) hF dX0_reach_62 rfl ?_
          refine s_cast (pc := 64) hF q161 (List.forall_mem_cons.mpr ⟨⟨(RX3, TX3, 14), rfl, Or.inl rfl⟩, fun _ h9 => absurd h9 List.not_mem_nil⟩) dX0_reach_64 ?_
          refine s_astore_n (L9 := [some (va_rf a0), some (.int a1), some (.int a2), some (va_rf v13), some (va_rf v13)]) (pc := 67) hF dX0_reach_67 rfl (Nat.le_of_ble_eq_true rfl) rfl ?_
          refine s_aload_n (pc := 68) hF dX0_reach_68 rfl rfl ?_
          refine s_iload_n (pc := 69) hF dX0_reach_69 rfl rfl ?_
          refine s_callV (pc := 70) (As := [.int a2]) (st := []) (stf := fun r9 => .int r9 :: []) hF (mX3_reach v13 a2) cw_X3_reach q643 q644 (List.forall_mem_cons.mpr ⟨⟨(RX3, TX3, 14), rfl, q645⟩, fun _ h9 => absurd h9 List.not_mem_nil⟩) rfl ⟨Nat.le_of_ble_eq_true rfl, Nat.le_of_ble_eq_true rfl⟩ ⟨trivial, Nat.le_of_ble_eq_true rfl⟩ dX0_reach_70 rfl (fun _ => rfl) (fun v17 M18 z19 => ?_)
          refine s_goto (pc := 73) hF 78 dX0_reach_73 rfl ?_
          exact s_iret (pc := 78) hF dX0_reach_78
      · refine s_bipush (pc := 39) hF dX0_reach_39 (-2 : Int32) (by decide) ?_
        exact s_iret (pc := 41) hF dX0_reach_41
    · refine s_iconst (pc := 27) hF dX0_reach_27 (-1 : Int32) (by decide) ?_
      exact s_iret (pc := 28) hF dX0_reach_28
theorem mX0_reach (a0 : Option Nat) (a1 : Int32) (a2 : Int32) : MT yX0_reach cX0_reach 5 (Option.some Jvm.ClassFile.FieldType.int) 6 139 eI [va_rf a0, .int a1, .int a2] (fX0_reach a0 a1 a2) :=
  MT.of (L0 := [some (va_rf a0), some (.int a1), some (.int a2), none, none]) (by decide) ⟨ct _, ⟨rfl, ⟨rfl, trivial⟩⟩⟩ (Nat.le_of_ble_eq_true rfl) rfl (fun _ _ hF M z => gX0_reach hF a0 a1 a2 M z)

theorem pl_X2_46 {G : Cx} {nL fr lc : Nat} {cc : ByteArray} {ret : Option FieldType} {nm : String} (hF : FX G cc nL RX2 ret nm fr lc) (x9 : Option Nat) : ∀ c ∈ [2, 3], PF G RX2 nm 46 c 9 (va_rf x9) := by
  obtain ⟨⟨p, l, e, R, s, m, args, below, meth, c0⟩, A, D, dA, mi⟩ := G
  obtain ⟨hx, hb, hml, hown, hts, hr, hlk, hK, hnm, hfr, hlc⟩ := hF
  exact List.forall_mem_cons.mpr ⟨⟨RX2, TX2, 13, "StoryColumns$Block", tyX2 9, rfl, in_X2, Nat.le_of_ble_eq_true rfl, Or.inl ⟨(hts _ q211), Or.inl rfl⟩, fun _ h => h, tyX2_ok 9 (Nat.le_of_ble_eq_true rfl), by cases x9 <;> rfl, by cases x9 <;> rfl, ap_2 hts hK⟩, List.forall_mem_cons.mpr ⟨⟨RX3, TX3, 14, "StoryColumns$Block", tyX3 9, rfl, in_X3, Nat.le_of_ble_eq_true rfl, Or.inl ⟨(hts _ q211), Or.inl rfl⟩, fun _ h => h, tyX3_ok 9 (Nat.le_of_ble_eq_true rfl), by cases x9 <;> rfl, by cases x9 <;> rfl, ap_3 hts hK⟩, fun _ h9 => absurd h9 List.not_mem_nil⟩⟩
theorem pl_X2_50 {G : Cx} {nL fr lc : Nat} {cc : ByteArray} {ret : Option FieldType} {nm : String} (hF : FX G cc nL RX2 ret nm fr lc) (x9 : Option Nat) : ∀ c ∈ [2, 3], PF G RX2 nm 50 c 10 (va_rf x9) := by
  obtain ⟨⟨p, l, e, R, s, m, args, below, meth, c0⟩, A, D, dA, mi⟩ := G
  obtain ⟨hx, hb, hml, hown, hts, hr, hlk, hK, hnm, hfr, hlc⟩ := hF
  exact List.forall_mem_cons.mpr ⟨⟨RX2, TX2, 13, "StoryColumns$Block", tyX2 10, rfl, in_X2, Nat.le_of_ble_eq_true rfl, Or.inl ⟨(hts _ q215), Or.inl rfl⟩, fun _ h => h, tyX2_ok 10 (Nat.le_of_ble_eq_true rfl), by cases x9 <;> rfl, by cases x9 <;> rfl, ap_2 hts hK⟩, List.forall_mem_cons.mpr ⟨⟨RX3, TX3, 14, "StoryColumns$Block", tyX3 10, rfl, in_X3, Nat.le_of_ble_eq_true rfl, Or.inl ⟨(hts _ q215), Or.inl rfl⟩, fun _ h => h, tyX3_ok 10 (Nat.le_of_ble_eq_true rfl), by cases x9 <;> rfl, by cases x9 <;> rfl, ap_3 hts hK⟩, fun _ h9 => absurd h9 List.not_mem_nil⟩⟩
theorem pl_X2_54 {G : Cx} {nL fr lc : Nat} {cc : ByteArray} {ret : Option FieldType} {nm : String} (hF : FX G cc nL RX2 ret nm fr lc) (x9 : Option Nat) : ∀ c ∈ [2, 3], PF G RX2 nm 54 c 11 (va_rf x9) := by
  obtain ⟨⟨p, l, e, R, s, m, args, below, meth, c0⟩, A, D, dA, mi⟩ := G
  obtain ⟨hx, hb, hml, hown, hts, hr, hlk, hK, hnm, hfr, hlc⟩ := hF
  exact List.forall_mem_cons.mpr ⟨⟨RX2, TX2, 13, "StoryColumns$Block", tyX2 11, rfl, in_X2, Nat.le_of_ble_eq_true rfl, Or.inl ⟨(hts _ q220), Or.inl rfl⟩, fun _ h => h, tyX2_ok 11 (Nat.le_of_ble_eq_true rfl), by cases x9 <;> rfl, by cases x9 <;> rfl, ap_2 hts hK⟩, List.forall_mem_cons.mpr ⟨⟨RX3, TX3, 14, "StoryColumns$Block", tyX3 11, rfl, in_X3, Nat.le_of_ble_eq_true rfl, Or.inl ⟨(hts _ q220), Or.inl rfl⟩, fun _ h => h, tyX3_ok 11 (Nat.le_of_ble_eq_true rfl), by cases x9 <;> rfl, by cases x9 <;> rfl, ap_3 hts hK⟩, fun _ h9 => absurd h9 List.not_mem_nil⟩⟩
def fX2_forgets (a0 : Option Nat) (M : Mp) (z : Nat) : Rs Unit := (pu M a0 [2, 3] 9 (va_rf none)).bind fun M1 =>
(pu M1 a0 [2, 3] 10 (va_rf none)).bind fun M2 =>
(pu M2 a0 [2, 3] 11 (va_rf none)).bind fun M3 =>
some ((), M3, 0, 0)
theorem gX2_forgets {G : Cx} {F : Option Value × Mp × Nat} (hF : FX G cX2_forgets 1 RX2 (Option.none : Option Jvm.ClassFile.FieldType) "forgets" 0 0) (a0 : Option Nat) (M : Mp) (z : Nat) : SK G F 1 eV 0 [some (va_rf a0)] [] M z (fX2_forgets a0 M z) := by
  unfold fX2_forgets
  refine s_aload_n (pc := 0) hF dX2_forgets_0 rfl rfl ?_
  refine s_null (pc := 1) hF dX2_forgets_1 ?_
  refine s_put (pc := 2) hF (pl_X2_46 hF _) dX2_forgets_2 (fun M1 => ?_)
  refine s_aload_n (pc := 5) hF dX2_forgets_5 rfl rfl ?_
  refine s_null (pc := 6) hF dX2_forgets_6 ?_
  refine s_put (pc := 7) hF (pl_X2_50 hF _) dX2_forgets_7 (fun M2 => ?_)
  refine s_aload_n (pc := 10) hF dX2_forgets_10 rfl rfl ?_
  refine s_null (pc := 11) hF dX2_forgets_11 ?_
  refine s_put (pc := 12) hF (pl_X2_54 hF _) dX2_forgets_12 (fun M3 => ?_)
  exact s_vret (pc := 15) hF dX2_forgets_15
theorem mX2_forgets (a0 : Option Nat) : MT yX2_forgets cX2_forgets 1 (Option.none : Option Jvm.ClassFile.FieldType) 0 0 eV [va_rf a0] (fX2_forgets a0) :=
  MT.of (L0 := [some (va_rf a0)]) (by decide) ⟨ct _, trivial⟩ (Nat.le_of_ble_eq_true rfl) rfl (fun _ _ hF M z => gX2_forgets hF a0 M z)

theorem pl_X5_3 {G : Cx} {nL fr lc : Nat} {cc : ByteArray} {ret : Option FieldType} (hF : FX G cc nL RX5 ret "<init>" fr lc) (x9 : Option Nat) : ∀ c ∈ [5], PF G RX5 "<init>" 3 c 7 (va_rf x9) := by
  obtain ⟨⟨p, l, e, R, s, m, args, below, meth, c0⟩, A, D, dA, mi⟩ := G
  obtain ⟨hx, hb, hml, hown, hts, hr, hlk, hK, hnm, hfr, hlc⟩ := hF
  exact List.forall_mem_cons.mpr ⟨⟨RX5, TX5, 8, "StoryColumns$Story", tyX5 7, rfl, in_X5, Nat.le_of_ble_eq_true rfl, Or.inl ⟨(hts _ q709), Or.inr ⟨rfl, rfl, rfl⟩⟩, fun _ h => h, tyX5_ok 7 (Nat.le_of_ble_eq_true rfl), by cases x9 <;> rfl, by cases x9 <;> rfl, ap_5 hts hK⟩, fun _ h9 => absurd h9 List.not_mem_nil⟩
theorem pl_X5_20 {G : Cx} {nL fr lc : Nat} {cc : ByteArray} {ret : Option FieldType} (hF : FX G cc nL RX5 ret "<init>" fr lc) (x9 : Option Nat) : ∀ c ∈ [5], PF G RX5 "<init>" 20 c 1 (va_rf x9) := by
  obtain ⟨⟨p, l, e, R, s, m, args, below, meth, c0⟩, A, D, dA, mi⟩ := G
  obtain ⟨hx, hb, hml, hown, hts, hr, hlk, hK, hnm, hfr, hlc⟩ := hF
  exact List.forall_mem_cons.mpr ⟨⟨RX5, TX5, 8, "StoryColumns$Story", tyX5 1, rfl, in_X5, Nat.le_of_ble_eq_true rfl, Or.inl ⟨(hts _ q696), Or.inr ⟨rfl, rfl, rfl⟩⟩, fun _ h => h, tyX5_ok 1 (Nat.le_of_ble_eq_true rfl), by cases x9 <;> rfl, by cases x9 <;> rfl, ap_5 hts hK⟩, fun _ h9 => absurd h9 List.not_mem_nil⟩
theorem pl_X5_24 {G : Cx} {nL fr lc : Nat} {cc : ByteArray} {ret : Option FieldType} (hF : FX G cc nL RX5 ret "<init>" fr lc) (x9 : Option Nat) : ∀ c ∈ [5], PF G RX5 "<init>" 24 c 0 (va_rf x9) := by
  obtain ⟨⟨p, l, e, R, s, m, args, below, meth, c0⟩, A, D, dA, mi⟩ := G
  obtain ⟨hx, hb, hml, hown, hts, hr, hlk, hK, hnm, hfr, hlc⟩ := hF
  exact List.forall_mem_cons.mpr ⟨⟨RX5, TX5, 8, "StoryColumns$Story", tyX5 0, rfl, in_X5, Nat.le_of_ble_eq_true rfl, Or.inl ⟨(hts _ q693), Or.inr ⟨rfl, rfl, rfl⟩⟩, fun _ h => h, tyX5_ok 0 (Nat.le_of_ble_eq_true rfl), by cases x9 <;> rfl, by cases x9 <;> rfl, ap_5 hts hK⟩, fun _ h9 => absurd h9 List.not_mem_nil⟩
def fX5_init (a0 : Option Nat) (a1 : Option Nat) (a2 : Option Nat) (M : Mp) (z : Nat) : Rs Unit := (pu M a0 [5] 7 (va_rf a1)).bind fun M1 =>
if a0 = none then none else
  (nwo 11 3 [.int 0, .null, .int 0] M1 z fun M2 z3 =>
if (some z) = none then none else
  (cb (fJ2_init (some z) (4 : Int32) M2 z3) z3 fun _ M5 z6 =>
(pu M5 a0 [5] 1 (va_rf (some z))).bind fun M7 =>
(pu M7 a0 [5] 0 (va_rf a2)).bind fun M8 =>
some ((), M8, 0, 0)))
theorem gX5_init {G : Cx} {F : Option Value × Mp × Nat} (hF : FX G cX5_init 3 RX5 (Option.none : Option Jvm.ClassFile.FieldType) "<init>" 4 81) (a0 : Option Nat) (a1 : Option Nat) (a2 : Option Nat) (M : Mp) (z : Nat) : SK G F 3 eV 0 [some (va_rf a0), some (va_rf a1), some (va_rf a2)] [] M z (fX5_init a0 a1 a2 M z) := by
  unfold fX5_init
  refine s_aload_n (pc := 0) hF dX5_init_0 rfl rfl ?_
  refine s_aload_n (pc := 1) hF dX5_init_1 rfl rfl ?_
  refine s_put (pc := 2) hF (pl_X5_3 hF _) dX5_init_2 (fun M1 => ?_)
  refine s_aload_n (pc := 5) hF dX5_init_5 rfl rfl ?_
  refine s_oinit (pc := 6) hF q690 ⟨Nat.le_of_ble_eq_true rfl, Nat.le_of_ble_eq_true rfl⟩ ⟨trivial, Nat.le_of_ble_eq_true rfl⟩ dX5_init_6 ?_
  refine s_aload_n (pc := 9) hF dX5_init_9 rfl rfl ?_
  refine s_nwo (pc := 10) hF dX5_init_10 rfl in_J2 tyJ2 tyJ2_ok q691 q89 q62 (fun j hj => by rcases (show j = 0 ∨ j = 1 ∨ j = 2 by omega) with rfl | rfl | rfl <;> rfl) (fun M2 z3 => ?_)
  refine s_dup (pc := 13) hF dX5_init_13 (ct _) ?_
  refine s_iconst (pc := 14) hF dX5_init_14 (4 : Int32) (by decide) ?_
  refine s_callJ (pc := 15) (As := [.int (4 : Int32)]) (st := [va_rf (some z), va_rf a0]) (stf := fun r9 => [va_rf (some z), va_rf a0]) hF (mJ2_init (some z) (4 : Int32)) cw_J2_init q692 q91 rfl rfl ⟨Nat.le_of_ble_eq_true rfl, Nat.le_of_ble_eq_true rfl⟩ ⟨⟨ct _, ⟨ct _, trivial⟩⟩, Nat.le_of_ble_eq_true rfl⟩ dX5_init_15 rfl (fun _ => rfl) (fun v4 M5 z6 => ?_)
  refine s_put (pc := 18) hF (pl_X5_20 hF _) dX5_init_18 (fun M7 => ?_)
  refine s_aload_n (pc := 21) hF dX5_init_21 rfl rfl ?_
  refine s_aload_n (pc := 22) hF dX5_init_22 rfl rfl ?_
  refine s_put (pc := 23) hF (pl_X5_24 hF _) dX5_init_23 (fun M8 => ?_)
  exact s_vret (pc := 26) hF dX5_init_26
theorem mX5_init (a0 : Option Nat) (a1 : Option Nat) (a2 : Option Nat) : MT yX5_init cX5_init 3 (Option.none : Option Jvm.ClassFile.FieldType) 4 81 eV [va_rf a0, va_rf a1, va_rf a2] (fX5_init a0 a1 a2) :=
  MT.of (L0 := [some (va_rf a0), some (va_rf a1), some (va_rf a2)]) (by decide) ⟨ct _, ⟨ct _, ⟨ct _, trivial⟩⟩⟩ (Nat.le_of_ble_eq_true rfl) rfl (fun _ _ hF M z => gX5_init hF a0 a1 a2 M z)

theorem fl_X3_85 {G : Cx} {nL fr lc : Nat} {cc : ByteArray} {ret : Option FieldType} {nm : String} (hF : FX G cc nL RX3 ret nm fr lc) : ∀ c ∈ [2, 3], GF G RX3 85 c 3 := by
  obtain ⟨⟨p, l, e, R, s, m, args, below, meth, c0⟩, A, D, dA, mi⟩ := G
  obtain ⟨hx, hb, hml, hown, hts, hr, hlk, hK, hnm, hfr, hlc⟩ := hF
  exact List.forall_mem_cons.mpr ⟨⟨RX2, TX2, 13, "StoryColumns$Block", rfl, in_X2, Nat.le_of_ble_eq_true rfl, Or.inl (hts _ q192), fun _ h => h⟩, List.forall_mem_cons.mpr ⟨⟨RX3, TX3, 14, "StoryColumns$Block", rfl, in_X3, Nat.le_of_ble_eq_true rfl, Or.inl (hts _ q192), fun _ h => h⟩, fun _ h9 => absurd h9 List.not_mem_nil⟩⟩
def fX3_isOver (a0 : Option Nat) (a1 : Option Nat) (M : Mp) (z : Nat) : Rs Int32 := (gi M a1 [2, 3] 1).bind fun v1 =>
(gi M a0 [3] 1).bind fun v2 =>
if v1 = v2 then
  ((gi M a1 [2, 3] 3).bind fun v3 =>
if ckc M a0 [3] = true then
  (cb (fX3_reach a0 v3 M z) z fun v4 M5 z6 =>
(gi M5 a1 [2, 3] 5).bind fun v7 =>
if v4 < v7 then
  (some ((0 : Int32), M5, 0, 0))
else
  ((gi M5 a1 [2, 3] 5).bind fun v8 =>
(gi M5 a0 [3] 6).bind fun v9 =>
if v9 < v8 then
  (some ((1 : Int32), M5, 0, 0))
else
  (some ((0 : Int32), M5, 0, 0))))
else none)
else
  (some ((0 : Int32), M, 0, 0))
theorem gX3_isOver {G : Cx} {F : Option Value × Mp × Nat} (hF : FX G cX3_isOver 2 RX3 (Option.some Jvm.ClassFile.FieldType.boolean) "isOver" 6 139) (a0 : Option Nat) (a1 : Option Nat) (M : Mp) (z : Nat) : SK G F 2 eI 0 [some (va_rf a0), some (va_rf a1)] [] M z (fX3_isOver a0 a1 M z) := by
  unfold fX3_isOver
  refine s_aload_n (pc := 0) hF dX3_isOver_0 rfl rfl ?_
  refine s_geti (pc := 1) hF (fl_X3_53 hF) dX3_isOver_1 (fun v1 => ?_)
  refine s_aload_n (pc := 4) hF dX3_isOver_4 rfl rfl ?_
  refine s_geti (pc := 5) hF (fl_X3_26 hF) dX3_isOver_5 (fun v2 => ?_)
  refine s_icmp_ne (pc := 8) hF 41 dX3_isOver_8 rfl ?_ ?_
  · refine s_iconst (pc := 41) hF dX3_isOver_41 (0 : Int32) (by decide) ?_
    exact s_zretL (pc := 42) hF dX3_isOver_42 (by decide)
  · refine s_aload_n (pc := 11) hF dX3_isOver_11 rfl rfl ?_
    refine s_aload_n (pc := 12) hF dX3_isOver_12 rfl rfl ?_
    refine s_geti (pc := 13) hF (fl_X3_85 hF) dX3_isOver_13 (fun v3 => ?_)
    refine s_callV (pc := 16) (As := [.int v3]) (st := []) (stf := fun r9 => .int r9 :: []) hF (mX3_reach a0 v3) cw_X3_reach q731 q644 (List.forall_mem_cons.mpr ⟨⟨(RX3, TX3, 14), rfl, q645⟩, fun _ h9 => absurd h9 List.not_mem_nil⟩) rfl ⟨Nat.le_of_ble_eq_true rfl, Nat.le_of_ble_eq_true rfl⟩ ⟨trivial, Nat.le_of_ble_eq_true rfl⟩ dX3_isOver_16 rfl (fun _ => rfl) (fun v4 M5 z6 => ?_)
    refine s_aload_n (pc := 19) hF dX3_isOver_19 rfl rfl ?_
    refine s_geti (pc := 20) hF (fl_X3_54 hF) dX3_isOver_20 (fun v7 => ?_)
    refine s_icmp_lt (pc := 23) hF 41 dX3_isOver_23 rfl ?_ ?_
    · refine s_iconst (pc := 41) hF dX3_isOver_41 (0 : Int32) (by decide) ?_
      exact s_zretL (pc := 42) hF dX3_isOver_42 (by decide)
    · refine s_aload_n (pc := 26) hF dX3_isOver_26 rfl rfl ?_
      refine s_geti (pc := 27) hF (fl_X3_54 hF) dX3_isOver_27 (fun v8 => ?_)
      refine s_aload_n (pc := 30) hF dX3_isOver_30 rfl rfl ?_
      refine s_geti (pc := 31) hF (fl_X3_19 hF) dX3_isOver_31 (fun v9 => ?_)
      refine s_icmp_le (pc := 34) hF 41 dX3_isOver_34 rfl ?_ ?_
      · refine s_iconst (pc := 41) hF dX3_isOver_41 (0 : Int32) (by decide) ?_
        exact s_zretL (pc := 42) hF dX3_isOver_42 (by decide)
      · refine s_iconst (pc := 37) hF dX3_isOver_37 (1 : Int32) (by decide) ?_
        refine s_goto (pc := 38) hF 42 dX3_isOver_38 rfl ?_
        exact s_zretL (pc := 42) hF dX3_isOver_42 (by decide)
theorem mX3_isOver (a0 : Option Nat) (a1 : Option Nat) : MT yX3_isOver cX3_isOver 2 (Option.some Jvm.ClassFile.FieldType.boolean) 6 139 eI [va_rf a0, va_rf a1] (fX3_isOver a0 a1) :=
  MT.of (L0 := [some (va_rf a0), some (va_rf a1)]) (by decide) ⟨ct _, ⟨ct _, trivial⟩⟩ (Nat.le_of_ble_eq_true rfl) rfl (fun _ _ hF M z => gX3_isOver hF a0 a1 M z)

theorem fl_X5_66 {G : Cx} {nL fr lc : Nat} {cc : ByteArray} {ret : Option FieldType} {nm : String} (hF : FX G cc nL RX5 ret nm fr lc) : ∀ c ∈ [2, 3], GF G RX5 66 c 3 := by
  obtain ⟨⟨p, l, e, R, s, m, args, below, meth, c0⟩, A, D, dA, mi⟩ := G
  obtain ⟨hx, hb, hml, hown, hts, hr, hlk, hK, hnm, hfr, hlc⟩ := hF
  exact List.forall_mem_cons.mpr ⟨⟨RX2, TX2, 13, "StoryColumns$Block", rfl, in_X2, Nat.le_of_ble_eq_true rfl, Or.inl (hts _ q193), fun _ h => h⟩, List.forall_mem_cons.mpr ⟨⟨RX3, TX3, 14, "StoryColumns$Block", rfl, in_X3, Nat.le_of_ble_eq_true rfl, Or.inl (hts _ q193), fun _ h => h⟩, fun _ h9 => absurd h9 List.not_mem_nil⟩⟩
theorem fl_X5_69 {G : Cx} {nL fr lc : Nat} {cc : ByteArray} {ret : Option FieldType} {nm : String} (hF : FX G cc nL RX5 ret nm fr lc) : ∀ c ∈ [2, 3], GF G RX5 69 c 5 := by
  obtain ⟨⟨p, l, e, R, s, m, args, below, meth, c0⟩, A, D, dA, mi⟩ := G
  obtain ⟨hx, hb, hml, hown, hts, hr, hlk, hK, hnm, hfr, hlc⟩ := hF
  exact List.forall_mem_cons.mpr ⟨⟨RX2, TX2, 13, "StoryColumns$Block", rfl, in_X2, Nat.le_of_ble_eq_true rfl, Or.inl (hts _ q199), fun _ h => h⟩, List.forall_mem_cons.mpr ⟨⟨RX3, TX3, 14, "StoryColumns$Block", rfl, in_X3, Nat.le_of_ble_eq_true rfl, Or.inl (hts _ q199), fun _ h => h⟩, fun _ h9 => absurd h9 List.not_mem_nil⟩⟩
def fX5_isAhead (a0 : Option Nat) (a1 : Option Nat) (a2 : Option Nat) (M : Mp) (z : Nat) : Rs Int32 := (gi M a1 [2, 3] 3).bind fun v1 =>
(gi M a2 [2, 3] 3).bind fun v2 =>
if v1 = v2 then
  ((gi M a1 [2, 3] 5).bind fun v3 =>
(gi M a2 [2, 3] 5).bind fun v4 =>
if v3 < v4 then
  (some ((1 : Int32), M, 0, 0))
else
  (some ((0 : Int32), M, 0, 0)))
else
  ((gi M a1 [2, 3] 3).bind fun v5 =>
(gi M a2 [2, 3] 3).bind fun v6 =>
if v5 < v6 then
  (some ((1 : Int32), M, 0, 0))
else
  (some ((0 : Int32), M, 0, 0)))
theorem gX5_isAhead {G : Cx} {F : Option Value × Mp × Nat} (hF : FX G cX5_isAhead 3 RX5 (Option.some Jvm.ClassFile.FieldType.boolean) "isAhead" 0 0) (a0 : Option Nat) (a1 : Option Nat) (a2 : Option Nat) (M : Mp) (z : Nat) : SK G F 3 eI 0 [some (va_rf a0), some (va_rf a1), some (va_rf a2)] [] M z (fX5_isAhead a0 a1 a2 M z) := by
  unfold fX5_isAhead
  refine s_aload_n (pc := 0) hF dX5_isAhead_0 rfl rfl ?_
  refine s_geti (pc := 1) hF (fl_X5_66 hF) dX5_isAhead_1 (fun v1 => ?_)
  refine s_aload_n (pc := 4) hF dX5_isAhead_4 rfl rfl ?_
  refine s_geti (pc := 5) hF (fl_X5_66 hF) dX5_isAhead_5 (fun v2 => ?_)
  refine s_icmp_eq (pc := 8) hF 30 dX5_isAhead_8 rfl ?_ ?_
  · refine s_aload_n (pc := 30) hF dX5_isAhead_30 rfl rfl ?_
    refine s_geti (pc := 31) hF (fl_X5_69 hF) dX5_isAhead_31 (fun v3 => ?_)
    refine s_aload_n (pc := 34) hF dX5_isAhead_34 rfl rfl ?_
    refine s_geti (pc := 35) hF (fl_X5_69 hF) dX5_isAhead_35 (fun v4 => ?_)
    refine s_icmp_ge (pc := 38) hF 45 dX5_isAhead_38 rfl ?_ ?_
    · refine s_iconst (pc := 45) hF dX5_isAhead_45 (0 : Int32) (by decide) ?_
      exact s_zretL (pc := 46) hF dX5_isAhead_46 (by decide)
    · refine s_iconst (pc := 41) hF dX5_isAhead_41 (1 : Int32) (by decide) ?_
      refine s_goto (pc := 42) hF 46 dX5_isAhead_42 rfl ?_
      exact s_zretL (pc := 46) hF dX5_isAhead_46 (by decide)
  · refine s_aload_n (pc := 11) hF dX5_isAhead_11 rfl rfl ?_
    refine s_geti (pc := 12) hF (fl_X5_66 hF) dX5_isAhead_12 (fun v5 => ?_)
    refine s_aload_n (pc := 15) hF dX5_isAhead_15 rfl rfl ?_
    refine s_geti (pc := 16) hF (fl_X5_66 hF) dX5_isAhead_16 (fun v6 => ?_)
    refine s_icmp_ge (pc := 19) hF 26 dX5_isAhead_19 rfl ?_ ?_
    · refine s_iconst (pc := 26) hF dX5_isAhead_26 (0 : Int32) (by decide) ?_
      refine s_goto (pc := 27) hF 46 dX5_isAhead_27 rfl ?_
      exact s_zretL (pc := 46) hF dX5_isAhead_46 (by decide)
    · refine s_iconst (pc := 22) hF dX5_isAhead_22 (1 : Int32) (by decide) ?_
      refine s_goto (pc := 23) hF 46 dX5_isAhead_23 rfl ?_
      exact s_zretL (pc := 46) hF dX5_isAhead_46 (by decide)
theorem mX5_isAhead (a0 : Option Nat) (a1 : Option Nat) (a2 : Option Nat) : MT yX5_isAhead cX5_isAhead 3 (Option.some Jvm.ClassFile.FieldType.boolean) 0 0 eI [va_rf a0, va_rf a1, va_rf a2] (fX5_isAhead a0 a1 a2) :=
  MT.of (L0 := [some (va_rf a0), some (va_rf a1), some (va_rf a2)]) (by decide) ⟨ct _, ⟨ct _, ⟨ct _, trivial⟩⟩⟩ (Nat.le_of_ble_eq_true rfl) rfl (fun _ _ hF M z => gX5_isAhead hF a0 a1 a2 M z)

theorem fl_X5_20 {G : Cx} {nL fr lc : Nat} {cc : ByteArray} {ret : Option FieldType} {nm : String} (hF : FX G cc nL RX5 ret nm fr lc) : ∀ c ∈ [5], GF G RX5 20 c 1 := by
  obtain ⟨⟨p, l, e, R, s, m, args, below, meth, c0⟩, A, D, dA, mi⟩ := G
  obtain ⟨hx, hb, hml, hown, hts, hr, hlk, hK, hnm, hfr, hlc⟩ := hF
  exact List.forall_mem_cons.mpr ⟨⟨RX5, TX5, 8, "StoryColumns$Story", rfl, in_X5, Nat.le_of_ble_eq_true rfl, Or.inl (hts _ q696), fun _ h => h⟩, fun _ h9 => absurd h9 List.not_mem_nil⟩
theorem pl_X5_62 {G : Cx} {nL fr lc : Nat} {cc : ByteArray} {ret : Option FieldType} {nm : String} (hF : FX G cc nL RX5 ret nm fr lc) (x9 : Option Nat) : ∀ c ∈ [2, 3], PF G RX5 nm 62 c 10 (va_rf x9) := by
  obtain ⟨⟨p, l, e, R, s, m, args, below, meth, c0⟩, A, D, dA, mi⟩ := G
  obtain ⟨hx, hb, hml, hown, hts, hr, hlk, hK, hnm, hfr, hlc⟩ := hF
  exact List.forall_mem_cons.mpr ⟨⟨RX2, TX2, 13, "StoryColumns$Block", tyX2 10, rfl, in_X2, Nat.le_of_ble_eq_true rfl, Or.inl ⟨(hts _ q214), Or.inl rfl⟩, fun _ h => h, tyX2_ok 10 (Nat.le_of_ble_eq_true rfl), by cases x9 <;> rfl, by cases x9 <;> rfl, ap_2 hts hK⟩, List.forall_mem_cons.mpr ⟨⟨RX3, TX3, 14, "StoryColumns$Block", tyX3 10, rfl, in_X3, Nat.le_of_ble_eq_true rfl, Or.inl ⟨(hts _ q214), Or.inl rfl⟩, fun _ h => h, tyX3_ok 10 (Nat.le_of_ble_eq_true rfl), by cases x9 <;> rfl, by cases x9 <;> rfl, ap_3 hts hK⟩, fun _ h9 => absurd h9 List.not_mem_nil⟩⟩
theorem cw_J2_add_3 : CWm yJ2_add_3 cJ2_add_3 5 (Option.none : Option Jvm.ClassFile.FieldType) 2 := ⟨q753, q62, by decide +kernel, by decide +kernel, by decide +kernel⟩
theorem cw_X5_isAhead : CWm yX5_isAhead cX5_isAhead 3 (Option.some Jvm.ClassFile.FieldType.boolean) 2 := ⟨q744, q74, by decide +kernel, by decide +kernel, by decide +kernel⟩
def fX5_gathers_J43 (l0 : Option Nat) (l1 : Option Nat) (l2 : Int32) (M : Mp) (z : Nat) : Rs Unit := (gr M l0 [5] 1).bind fun v1 =>
if ckc M v1 [11] = true then
  (cb (fJ2_add_3 v1 l2 l1 M z) z fun _ M3 z4 =>
(pu M3 l1 [2, 3] 10 (va_rf l0)).bind fun M5 =>
some ((), M5, 0, 0))
else none

theorem gX5_gathers_J43 {G : Cx} {F : Option Value × Mp × Nat} (hF : FX G cX5_gathers 3 RX5 (Option.none : Option Jvm.ClassFile.FieldType) "gathers" 10 288) (l0 : Option Nat) (l1 : Option Nat) (l2 : Int32) (M : Mp) (z : Nat) : SK G F 3 eV 43 [some (va_rf l0), some (va_rf l1), some (.int l2)] [] M z (fX5_gathers_J43 l0 l1 l2 M z) := by
  unfold fX5_gathers_J43
  refine s_aload_n (pc := 43) hF dX5_gathers_43 rfl rfl ?_
  refine s_getr (pc := 44) hF (fl_X5_20 hF) dX5_gathers_44 (fun v1 => ?_)
  refine s_iload_n (pc := 47) hF dX5_gathers_47 rfl rfl ?_
  refine s_aload_n (pc := 48) hF dX5_gathers_48 rfl rfl ?_
  refine s_callF (pc := 49) (As := [.int l2, va_rf l1]) (st := []) (stf := fun r9 => []) (x := ⟨"java/util/List", "add", "(ILjava/lang/Object;)V"⟩) hF (mJ2_add_3 v1 l2 l1) cw_J2_add_3 rfl ⟨by decide, by decide⟩ q746 q751 n_q748 n_q747 n_q752 (List.forall_mem_cons.mpr ⟨⟨(RJ2, TJ2, 3), rfl, q749, n_q750, n_q155⟩, fun _ h9 => absurd h9 List.not_mem_nil⟩) rfl ⟨Nat.le_of_ble_eq_true rfl, Nat.le_of_ble_eq_true rfl⟩ ⟨trivial, Nat.le_of_ble_eq_true rfl⟩ dX5_gathers_49 rfl (fun _ => rfl) (fun v2 M3 z4 => ?_)
  refine s_aload_n (pc := 54) hF dX5_gathers_54 rfl rfl ?_
  refine s_aload_n (pc := 55) hF dX5_gathers_55 rfl rfl ?_
  refine s_put (pc := 56) hF (pl_X5_62 hF _) dX5_gathers_56 (fun M5 => ?_)
  exact s_vret (pc := 59) hF dX5_gathers_59

def fX5_gathers_L10 : Nat → Option Nat → Option Nat → Int32 → Mp → Nat → Rs Unit
  | 0, _, _, _, _, _ => none
  | fu + 1, l0, l1, l2, M, z => if 0 < l2 then
  ((gr M l0 [5] 1).bind fun v1 =>
if ckc M v1 [11] = true then
  (cb (fJ2_get v1 (l2 - (1 : Int32)) M z) z fun v2 M3 z4 =>
if cst M3 v2 [2, 3] = true then
  (if ckc M3 l0 [5] = true then
  (cb (fX5_isAhead l0 l1 v2 M3 z4) z4 fun v5 M6 z7 =>
if v5 = 0 then
  (fX5_gathers_J43 l0 l1 l2 M6 z7)
else
  (fX5_gathers_L10 fu l0 l1 (l2 + (-1)) M6 z7))
else none)
else none)
else none)
else
  (fX5_gathers_J43 l0 l1 l2 M z)

theorem gX5_gathers_L10 {G : Cx} {F : Option Value × Mp × Nat} (hF : FX G cX5_gathers 3 RX5 (Option.none : Option Jvm.ClassFile.FieldType) "gathers" 10 288) : ∀ (fu : Nat) (l0 : Option Nat) (l1 : Option Nat) (l2 : Int32) (M : Mp) (z : Nat), SK G F 3 eV 10 [some (va_rf l0), some (va_rf l1), some (.int l2)] [] M z (fX5_gathers_L10 fu l0 l1 l2 M z) := by
  intro fu
  induction fu with
  | zero => intros; exact SK.fail
  | succ fu ih =>
    intro l0 l1 l2 M z
    rw [fX5_gathers_L10]
    refine s_iload_n (pc := 10) hF dX5_gathers_10 rfl rfl ?_
    refine s_if_le (pc := 11) hF 43 dX5_gathers_11 rfl ?_ ?_
    · exact SK.sb (gX5_gathers_J43 hF l0 l1 l2 M z) ⟨rfl, ⟨rfl, ⟨rfl, trivial⟩⟩⟩
    · refine s_aload_n (pc := 14) hF dX5_gathers_14 rfl rfl ?_
      refine s_aload_n (pc := 15) hF dX5_gathers_15 rfl rfl ?_
      refine s_aload_n (pc := 16) hF dX5_gathers_16 rfl rfl ?_
      refine s_getr (pc := 17) hF (fl_X5_20 hF) dX5_gathers_17 (fun v1 => ?_)
      refine s_iload_n (pc := 20) hF dX5_gathers_20 rfl rfl ?_
      refine s_iconst (pc := 21) hF dX5_gathers_21 (1 : Int32) (by decide) ?_
      refine s_isub (pc := 22) hF dX5_gathers_22 ?_
      refine s_callF (pc := 23) (As := [.int (l2 - (1 : Int32))]) (st := [va_rf l1, va_rf l0]) (stf := fun r9 => va_rf r9 :: [va_rf l1, va_rf l0]) (x := ⟨"java/util/List", "get", "(I)Ljava/lang/Object;"⟩) hF (mJ2_get v1 (l2 - (1 : Int32))) cw_J2_get rfl ⟨by decide, by decide⟩ q739 q356 n_q353 n_q352 n_q357 (List.forall_mem_cons.mpr ⟨⟨(RJ2, TJ2, 3), rfl, q354, n_q355, n_q155⟩, fun _ h9 => absurd h9 List.not_mem_nil⟩) rfl ⟨Nat.le_of_ble_eq_true rfl, Nat.le_of_ble_eq_true rfl⟩ ⟨⟨ct _, ⟨ct _, trivial⟩⟩, Nat.le_of_ble_eq_true rfl⟩ dX5_gathers_23 rfl (fun _ => rfl) (fun v2 M3 z4 => ?_)
      refine s_cast (pc := 28) hF q740 (List.forall_mem_cons.mpr ⟨⟨(RX2, TX2, 13), rfl, Or.inl rfl⟩, List.forall_mem_cons.mpr ⟨⟨(RX3, TX3, 14), rfl, Or.inr n_q1359⟩, fun _ h9 => absurd h9 List.not_mem_nil⟩⟩) dX5_gathers_28 ?_
      refine s_callV (pc := 31) (As := [va_rf l1, va_rf v2]) (st := []) (stf := fun r9 => .int r9 :: []) hF (mX5_isAhead l0 l1 v2) cw_X5_isAhead q741 q743 (List.forall_mem_cons.mpr ⟨⟨(RX5, TX5, 8), rfl, qs10⟩, fun _ h9 => absurd h9 List.not_mem_nil⟩) rfl ⟨Nat.le_of_ble_eq_true rfl, Nat.le_of_ble_eq_true rfl⟩ ⟨trivial, Nat.le_of_ble_eq_true rfl⟩ dX5_gathers_31 rfl (fun _ => rfl) (fun v5 M6 z7 => ?_)
      refine s_if_eq (pc := 34) hF 43 dX5_gathers_34 rfl ?_ ?_
      · exact SK.sb (gX5_gathers_J43 hF l0 l1 l2 M6 z7) ⟨rfl, ⟨rfl, ⟨rfl, trivial⟩⟩⟩
      · refine s_iinc (v := l2 + (-1)) (L9 := [some (va_rf l0), some (va_rf l1), some (.int (l2 + (-1)))]) (pc := 37) hF dX5_gathers_37 rfl rfl (Nat.le_of_ble_eq_true rfl) rfl ?_
        refine s_goto (pc := 40) hF 10 dX5_gathers_40 rfl ?_
        exact SK.sb (ih l0 l1 (l2 + (-1)) M6 z7) ⟨rfl, ⟨rfl, ⟨rfl, trivial⟩⟩⟩
def fX5_gathers (a0 : Option Nat) (a1 : Option Nat) (M : Mp) (z : Nat) : Rs Unit := (gr M a0 [5] 1).bind fun v1 =>
if ckc M v1 [11] = true then
  (cb (fJ2_size v1 M z) z fun v2 M3 z4 =>
fX5_gathers_L10 FU a0 a1 v2 M3 z4)
else none
theorem gX5_gathers {G : Cx} {F : Option Value × Mp × Nat} (hF : FX G cX5_gathers 3 RX5 (Option.none : Option Jvm.ClassFile.FieldType) "gathers" 10 288) (a0 : Option Nat) (a1 : Option Nat) (M : Mp) (z : Nat) : SK G F 3 eV 0 [some (va_rf a0), some (va_rf a1), none] [] M z (fX5_gathers a0 a1 M z) := by
  unfold fX5_gathers
  refine s_aload_n (pc := 0) hF dX5_gathers_0 rfl rfl ?_
  refine s_getr (pc := 1) hF (fl_X5_20 hF) dX5_gathers_1 (fun v1 => ?_)
  refine s_callF (pc := 4) (As := []) (st := []) (stf := fun r9 => .int r9 :: []) (x := ⟨"java/util/List", "size", "()I"⟩) hF (mJ2_size v1) cw_J2_size rfl ⟨by decide, by decide⟩ q737 q158 n_q154 n_q153 n_q159 (List.forall_mem_cons.mpr ⟨⟨(RJ2, TJ2, 3), rfl, q156, n_q157, n_q155⟩, fun _ h9 => absurd h9 List.not_mem_nil⟩) rfl ⟨Nat.le_of_ble_eq_true rfl, Nat.le_of_ble_eq_true rfl⟩ ⟨trivial, Nat.le_of_ble_eq_true rfl⟩ dX5_gathers_4 rfl (fun _ => rfl) (fun v2 M3 z4 => ?_)
  refine s_istore_n (L9 := [some (va_rf a0), some (va_rf a1), some (.int v2)]) (pc := 9) hF dX5_gathers_9 rfl (Nat.le_of_ble_eq_true rfl) rfl ?_
  exact SK.sb (gX5_gathers_L10 hF FU a0 a1 v2 M3 z4) ⟨rfl, ⟨rfl, ⟨rfl, trivial⟩⟩⟩
theorem mX5_gathers (a0 : Option Nat) (a1 : Option Nat) : MT yX5_gathers cX5_gathers 3 (Option.none : Option Jvm.ClassFile.FieldType) 10 288 eV [va_rf a0, va_rf a1] (fX5_gathers a0 a1) :=
  MT.of (L0 := [some (va_rf a0), some (va_rf a1), none]) (by decide) ⟨ct _, ⟨ct _, trivial⟩⟩ (Nat.le_of_ble_eq_true rfl) rfl (fun _ _ hF M z => gX5_gathers hF a0 a1 M z)

theorem fl_X0_172 {G : Cx} {nL fr lc : Nat} {cc : ByteArray} {ret : Option FieldType} {nm : String} (hF : FX G cc nL RX0 ret nm fr lc) : ∀ c ∈ [2, 3], GF G RX0 172 c 9 := by
  obtain ⟨⟨p, l, e, R, s, m, args, below, meth, c0⟩, A, D, dA, mi⟩ := G
  obtain ⟨hx, hb, hml, hown, hts, hr, hlk, hK, hnm, hfr, hlc⟩ := hF
  exact List.forall_mem_cons.mpr ⟨⟨RX2, TX2, 13, "StoryColumns$Block", rfl, in_X2, Nat.le_of_ble_eq_true rfl, Or.inl (hts _ q213), fun _ h => h⟩, List.forall_mem_cons.mpr ⟨⟨RX3, TX3, 14, "StoryColumns$Block", rfl, in_X3, Nat.le_of_ble_eq_true rfl, Or.inl (hts _ q213), fun _ h => h⟩, fun _ h9 => absurd h9 List.not_mem_nil⟩⟩
theorem fl_X0_161 {G : Cx} {nL fr lc : Nat} {cc : ByteArray} {ret : Option FieldType} {nm : String} (hF : FX G cc nL RX0 ret nm fr lc) : ∀ c ∈ [3], GF G RX0 161 c 10 := by
  obtain ⟨⟨p, l, e, R, s, m, args, below, meth, c0⟩, A, D, dA, mi⟩ := G
  obtain ⟨hx, hb, hml, hown, hts, hr, hlk, hK, hnm, hfr, hlc⟩ := hF
  exact List.forall_mem_cons.mpr ⟨⟨RX3, TX3, 14, "StoryColumns$Head", rfl, in_X3, Nat.le_of_ble_eq_true rfl, Or.inl (hts _ q216), u_same (hts _ q217)⟩, fun _ h9 => absurd h9 List.not_mem_nil⟩
theorem cw_X5_gathers : CWm yX5_gathers cX5_gathers 3 (Option.none : Option Jvm.ClassFile.FieldType) 1 := ⟨q735, q74, by decide +kernel, by decide +kernel, by decide +kernel⟩
theorem pl_X0_172 {G : Cx} {nL fr lc : Nat} {cc : ByteArray} {ret : Option FieldType} {nm : String} (hF : FX G cc nL RX0 ret nm fr lc) (x9 : Option Nat) : ∀ c ∈ [2, 3], PF G RX0 nm 172 c 9 (va_rf x9) := by
  obtain ⟨⟨p, l, e, R, s, m, args, below, meth, c0⟩, A, D, dA, mi⟩ := G
  obtain ⟨hx, hb, hml, hown, hts, hr, hlk, hK, hnm, hfr, hlc⟩ := hF
  exact List.forall_mem_cons.mpr ⟨⟨RX2, TX2, 13, "StoryColumns$Block", tyX2 9, rfl, in_X2, Nat.le_of_ble_eq_true rfl, Or.inl ⟨(hts _ q213), Or.inl rfl⟩, fun _ h => h, tyX2_ok 9 (Nat.le_of_ble_eq_true rfl), by cases x9 <;> rfl, by cases x9 <;> rfl, ap_2 hts hK⟩, List.forall_mem_cons.mpr ⟨⟨RX3, TX3, 14, "StoryColumns$Block", tyX3 9, rfl, in_X3, Nat.le_of_ble_eq_true rfl, Or.inl ⟨(hts _ q213), Or.inl rfl⟩, fun _ h => h, tyX3_ok 9 (Nat.le_of_ble_eq_true rfl), by cases x9 <;> rfl, by cases x9 <;> rfl, ap_3 hts hK⟩, fun _ h9 => absurd h9 List.not_mem_nil⟩⟩
theorem cw_X3_isOver : CWm yX3_isOver cX3_isOver 2 (Option.some Jvm.ClassFile.FieldType.boolean) 1 := ⟨q730, q65, by decide +kernel, by decide +kernel, by decide +kernel⟩
theorem pl_X0_161 {G : Cx} {nL fr lc : Nat} {cc : ByteArray} {ret : Option FieldType} {nm : String} (hF : FX G cc nL RX0 ret nm fr lc) (x9 : Option Nat) : ∀ c ∈ [3], PF G RX0 nm 161 c 10 (va_rf x9) := by
  obtain ⟨⟨p, l, e, R, s, m, args, below, meth, c0⟩, A, D, dA, mi⟩ := G
  obtain ⟨hx, hb, hml, hown, hts, hr, hlk, hK, hnm, hfr, hlc⟩ := hF
  exact List.forall_mem_cons.mpr ⟨⟨RX3, TX3, 14, "StoryColumns$Head", tyX3 10, rfl, in_X3, Nat.le_of_ble_eq_true rfl, Or.inl ⟨(hts _ q216), Or.inl rfl⟩, u_same (hts _ q217), tyX3_ok 10 (Nat.le_of_ble_eq_true rfl), by cases x9 <;> rfl, by cases x9 <;> rfl, ap_3 hts hK⟩, fun _ h9 => absurd h9 List.not_mem_nil⟩
theorem pl_X0_165 {G : Cx} {nL fr lc : Nat} {cc : ByteArray} {ret : Option FieldType} {nm : String} (hF : FX G cc nL RX0 ret nm fr lc) (x9 : Int32) : ∀ c ∈ [5], PF G RX0 nm 165 c 2 (.int x9) := by
  obtain ⟨⟨p, l, e, R, s, m, args, below, meth, c0⟩, A, D, dA, mi⟩ := G
  obtain ⟨hx, hb, hml, hown, hts, hr, hlk, hK, hnm, hfr, hlc⟩ := hF
  exact List.forall_mem_cons.mpr ⟨⟨RX5, TX5, 8, "StoryColumns$Story", tyX5 2, rfl, in_X5, Nat.le_of_ble_eq_true rfl, Or.inr ⟨rfl, _, (va_Nw.use rfl (hK.2.1 _ n_q701))⟩, fun _ h => h, tyX5_ok 2 (Nat.le_of_ble_eq_true rfl), rfl, rfl, ap_5 hts hK⟩, fun _ h9 => absurd h9 List.not_mem_nil⟩
theorem cw_X5_init : CWm yX5_init cX5_init 3 (Option.none : Option Jvm.ClassFile.FieldType) 2 := ⟨q689, q74, by decide +kernel, by decide +kernel, by decide +kernel⟩
theorem cw_X2_forgets : CWm yX2_forgets cX2_forgets 1 (Option.none : Option Jvm.ClassFile.FieldType) 0 := ⟨q684, q64, by decide +kernel, by decide +kernel, by decide +kernel⟩
def fX0_gathers_J201 (r112 : Option Nat → Option Nat → Mp → Nat → Rs Unit) (l0 : Option Nat) (l1 : Option Nat) (l2 : Option Nat) (M : Mp) (z : Nat) : Rs Unit := if ckc M l2 [2, 3] = true then
  (cb (fX2_isText l2 M z) z fun v1 M2 z3 =>
if v1 = 0 then
  (r112 l0 l1 M2 z3)
else
  ((gr M2 l2 [2, 3] 9).bind fun v4 =>
if v4 = none then
  (r112 l0 l1 M2 z3)
else
  ((gr M2 l2 [2, 3] 9).bind fun v5 =>
(gr M2 v5 [3] 10).bind fun v6 =>
if ckc M2 v6 [5] = true then
  (cb (fX5_gathers v6 l2 M2 z3) z3 fun _ M8 z9 =>
r112 l0 l1 M8 z9)
else none)))
else none

theorem gX0_gathers_J201 {G : Cx} {F : Option Value × Mp × Nat}  {r112 : Option Nat → Option Nat → Mp → Nat → Rs Unit}(hF : FX G cX0_gathers 6 RX0 (Option.none : Option Jvm.ClassFile.FieldType) "gathers" 11 310) (hr112 : ∀ l0 l1 M z, SK G F 6 eV 112 [some (va_rf l0), some (va_rf l1), none, none, none, none] [] M z (r112 l0 l1 M z)) (l0 : Option Nat) (l1 : Option Nat) (l2 : Option Nat) (M : Mp) (z : Nat) : SK G F 6 eV 201 [some (va_rf l0), some (va_rf l1), some (va_rf l2), none, none, none] [] M z (fX0_gathers_J201 r112 l0 l1 l2 M z) := by
  unfold fX0_gathers_J201
  refine s_aload_n (pc := 201) hF dX0_gathers_201 rfl rfl ?_
  refine s_callV (pc := 202) (As := []) (st := []) (stf := fun r9 => .int r9 :: []) hF (mX2_isText l2) cw_X2_isText q524 q525 (List.forall_mem_cons.mpr ⟨⟨(RX2, TX2, 13), rfl, q526⟩, List.forall_mem_cons.mpr ⟨⟨(RX3, TX3, 14), rfl, q528⟩, fun _ h9 => absurd h9 List.not_mem_nil⟩⟩) rfl ⟨Nat.le_of_ble_eq_true rfl, Nat.le_of_ble_eq_true rfl⟩ ⟨trivial, Nat.le_of_ble_eq_true rfl⟩ dX0_gathers_202 rfl (fun _ => rfl) (fun v1 M2 z3 => ?_)
  refine s_if_eq (pc := 205) hF 226 dX0_gathers_205 rfl ?_ ?_
  · refine s_goto (pc := 226) hF 112 dX0_gathers_226 rfl ?_
    exact SK.sb (hr112 l0 l1 M2 z3) ⟨rfl, ⟨rfl, trivial⟩⟩
  · refine s_aload_n (pc := 208) hF dX0_gathers_208 rfl rfl ?_
    refine s_getr (pc := 209) hF (fl_X0_172 hF) dX0_gathers_209 (fun v4 => ?_)
    refine s_ifnull (pc := 212) hF 226 dX0_gathers_212 rfl ?_ ?_
    · refine s_goto (pc := 226) hF 112 dX0_gathers_226 rfl ?_
      exact SK.sb (hr112 l0 l1 M2 z3) ⟨rfl, ⟨rfl, trivial⟩⟩
    · refine s_aload_n (pc := 215) hF dX0_gathers_215 rfl rfl ?_
      refine s_getr (pc := 216) hF (fl_X0_172 hF) dX0_gathers_216 (fun v5 => ?_)
      refine s_getr (pc := 219) hF (fl_X0_161 hF) dX0_gathers_219 (fun v6 => ?_)
      refine s_aload_n (pc := 222) hF dX0_gathers_222 rfl rfl ?_
      refine s_callV (pc := 223) (As := [va_rf l2]) (st := []) (stf := fun r9 => []) hF (mX5_gathers v6 l2) cw_X5_gathers q732 q733 (List.forall_mem_cons.mpr ⟨⟨(RX5, TX5, 8), rfl, q734⟩, fun _ h9 => absurd h9 List.not_mem_nil⟩) rfl ⟨Nat.le_of_ble_eq_true rfl, Nat.le_of_ble_eq_true rfl⟩ ⟨trivial, Nat.le_of_ble_eq_true rfl⟩ dX0_gathers_223 rfl (fun _ => rfl) (fun v7 M8 z9 => ?_)
      refine s_goto (pc := 226) hF 112 dX0_gathers_226 rfl ?_
      exact SK.sb (hr112 l0 l1 M8 z9) ⟨rfl, ⟨rfl, trivial⟩⟩

def fX0_gathers_J195 (r112 : Option Nat → Option Nat → Mp → Nat → Rs Unit) (r133 : Option Nat → Option Nat → Option Nat → Int32 → Mp → Nat → Rs Unit) (l0 : Option Nat) (l1 : Option Nat) (l2 : Option Nat) (l3 : Int32) (M : Mp) (z : Nat) : Rs Unit := r133 l0 l1 l2 (l3 + 1) M z

theorem gX0_gathers_J195 {G : Cx} {F : Option Value × Mp × Nat}  {r112 : Option Nat → Option Nat → Mp → Nat → Rs Unit} {r133 : Option Nat → Option Nat → Option Nat → Int32 → Mp → Nat → Rs Unit}(hF : FX G cX0_gathers 6 RX0 (Option.none : Option Jvm.ClassFile.FieldType) "gathers" 11 310) (hr112 : ∀ l0 l1 M z, SK G F 6 eV 112 [some (va_rf l0), some (va_rf l1), none, none, none, none] [] M z (r112 l0 l1 M z)) (hr133 : ∀ l0 l1 l2 l3 M z, SK G F 6 eV 133 [some (va_rf l0), some (va_rf l1), some (va_rf l2), some (.int l3), none, none] [] M z (r133 l0 l1 l2 l3 M z)) (l0 : Option Nat) (l1 : Option Nat) (l2 : Option Nat) (l3 : Int32) (M : Mp) (z : Nat) : SK G F 6 eV 195 [some (va_rf l0), some (va_rf l1), some (va_rf l2), some (.int l3), none, none] [] M z (fX0_gathers_J195 r112 r133 l0 l1 l2 l3 M z) := by
  unfold fX0_gathers_J195
  refine s_iinc (v := l3 + 1) (L9 := [some (va_rf l0), some (va_rf l1), some (va_rf l2), some (.int (l3 + 1)), none, none]) (pc := 195) hF dX0_gathers_195 rfl rfl (Nat.le_of_ble_eq_true rfl) rfl ?_
  refine s_goto (pc := 198) hF 133 dX0_gathers_198 rfl ?_
  exact SK.sb (hr133 l0 l1 l2 (l3 + 1) M z) ⟨rfl, ⟨rfl, ⟨rfl, ⟨rfl, trivial⟩⟩⟩⟩

def fX0_gathers_L133 (r112 : Option Nat → Option Nat → Mp → Nat → Rs Unit) : Nat → Option Nat → Option Nat → Option Nat → Int32 → Mp → Nat → Rs Unit
  | 0, _, _, _, _, _, _ => none
  | fu + 1, l0, l1, l2, l3, M, z => (gr M l0 [0] 0).bind fun v1 =>
if ckc M v1 [11] = true then
  (cb (fJ2_size v1 M z) z fun v2 M3 z4 =>
if l3 < v2 then
  ((gi M3 l2 [2, 3] 2).bind fun v5 =>
if v5 = 0 then
  (fX0_gathers_J201 r112 l0 l1 l2 M3 z4)
else
  ((gr M3 l0 [0] 0).bind fun v6 =>
if ckc M3 v6 [11] = true then
  (cb (fJ2_get v6 l3 M3 z4) z4 fun v7 M8 z9 =>
(isH M8 v7).bind fun v10 =>
if v10 = 0 then
  (fX0_gathers_J195 r112 (fX0_gathers_L133 r112 fu) l0 l1 l2 l3 M8 z9)
else
  (if cst M8 v7 [3] = true then
  (if ckc M8 v7 [3] = true then
  (cb (fX3_isOver v7 l2 M8 z9) z9 fun v11 M12 z13 =>
if v11 = 0 then
  (fX0_gathers_J195 r112 (fX0_gathers_L133 r112 fu) l0 l1 l2 l3 M12 z13)
else
  ((pu M12 l2 [2, 3] 9 (va_rf v7)).bind fun M14 =>
fX0_gathers_J195 r112 (fX0_gathers_L133 r112 fu) l0 l1 l2 l3 M14 z13))
else none)
else none))
else none))
else
  (fX0_gathers_J201 r112 l0 l1 l2 M3 z4))
else none

theorem gX0_gathers_L133 {G : Cx} {F : Option Value × Mp × Nat}  {r112 : Option Nat → Option Nat → Mp → Nat → Rs Unit}(hF : FX G cX0_gathers 6 RX0 (Option.none : Option Jvm.ClassFile.FieldType) "gathers" 11 310) (hr112 : ∀ l0 l1 M z, SK G F 6 eV 112 [some (va_rf l0), some (va_rf l1), none, none, none, none] [] M z (r112 l0 l1 M z)) : ∀ (fu : Nat) (l0 : Option Nat) (l1 : Option Nat) (l2 : Option Nat) (l3 : Int32) (M : Mp) (z : Nat), SK G F 6 eV 133 [some (va_rf l0), some (va_rf l1), some (va_rf l2), some (.int l3), none, none] [] M z (fX0_gathers_L133 r112 fu l0 l1 l2 l3 M z) := by
  intro fu
  induction fu with
  | zero => intros; exact SK.fail
  | succ fu ih =>
    intro l0 l1 l2 l3 M z
    rw [fX0_gathers_L133]
    refine s_iload_n (pc := 133) hF dX0_gathers_133 rfl rfl ?_
    refine s_aload_n (pc := 134) hF dX0_gathers_134 rfl rfl ?_
    refine s_getr (pc := 135) hF (fl_X0_14 hF) dX0_gathers_135 (fun v1 => ?_)
    refine s_callF (pc := 138) (As := []) (st := [.int l3]) (stf := fun r9 => .int r9 :: [.int l3]) (x := ⟨"java/util/List", "size", "()I"⟩) hF (mJ2_size v1) cw_J2_size rfl ⟨by decide, by decide⟩ q152 q158 n_q154 n_q153 n_q159 (List.forall_mem_cons.mpr ⟨⟨(RJ2, TJ2, 3), rfl, q156, n_q157, n_q155⟩, fun _ h9 => absurd h9 List.not_mem_nil⟩) rfl ⟨Nat.le_of_ble_eq_true rfl, Nat.le_of_ble_eq_true rfl⟩ ⟨⟨rfl, trivial⟩, Nat.le_of_ble_eq_true rfl⟩ dX0_gathers_138 rfl (fun _ => rfl) (fun v2 M3 z4 => ?_)
    refine s_icmp_ge (pc := 143) hF 201 dX0_gathers_143 rfl ?_ ?_
    · exact SK.sb (gX0_gathers_J201 hF hr112 l0 l1 l2 M3 z4) ⟨rfl, ⟨rfl, ⟨rfl, trivial⟩⟩⟩
    · refine s_aload_n (pc := 146) hF dX0_gathers_146 rfl rfl ?_
      refine s_geti (pc := 147) hF (fl_X0_134 hF) dX0_gathers_147 (fun v5 => ?_)
      refine s_if_eq (pc := 150) hF 201 dX0_gathers_150 rfl ?_ ?_
      · exact SK.sb (gX0_gathers_J201 hF hr112 l0 l1 l2 M3 z4) ⟨rfl, ⟨rfl, ⟨rfl, trivial⟩⟩⟩
      · refine s_aload_n (pc := 153) hF dX0_gathers_153 rfl rfl ?_
        refine s_getr (pc := 154) hF (fl_X0_14 hF) dX0_gathers_154 (fun v6 => ?_)
        refine s_iload_n (pc := 157) hF dX0_gathers_157 rfl rfl ?_
        refine s_callF (pc := 158) (As := [.int l3]) (st := []) (stf := fun r9 => va_rf r9 :: []) (x := ⟨"java/util/List", "get", "(I)Ljava/lang/Object;"⟩) hF (mJ2_get v6 l3) cw_J2_get rfl ⟨by decide, by decide⟩ q523 q356 n_q353 n_q352 n_q357 (List.forall_mem_cons.mpr ⟨⟨(RJ2, TJ2, 3), rfl, q354, n_q355, n_q155⟩, fun _ h9 => absurd h9 List.not_mem_nil⟩) rfl ⟨Nat.le_of_ble_eq_true rfl, Nat.le_of_ble_eq_true rfl⟩ ⟨trivial, Nat.le_of_ble_eq_true rfl⟩ dX0_gathers_158 rfl (fun _ => rfl) (fun v7 M8 z9 => ?_)
        refine s_astore (L9 := [some (va_rf l0), some (va_rf l1), some (va_rf l2), some (.int l3), none, some (va_rf v7)]) (pc := 163) hF dX0_gathers_163 (Nat.le_of_ble_eq_true rfl) rfl ?_
        refine s_aload (pc := 165) hF dX0_gathers_165 rfl ?_
        refine s_inst (pc := 167) hF q161 dX0_gathers_167 (fun v10 => ?_)
        refine s_if_eq (pc := 170) hF 195 dX0_gathers_170 rfl ?_ ?_
        · exact SK.sb (gX0_gathers_J195 hF hr112 ih l0 l1 l2 l3 M8 z9) ⟨rfl, ⟨rfl, ⟨rfl, ⟨rfl, trivial⟩⟩⟩⟩
        · refine s_aload (pc := 173) hF dX0_gathers_173 rfl ?_
          refine s_cast (pc := 175) hF q161 (List.forall_mem_cons.mpr ⟨⟨(RX3, TX3, 14), rfl, Or.inl rfl⟩, fun _ h9 => absurd h9 List.not_mem_nil⟩) dX0_gathers_175 ?_
          refine s_astore (L9 := [some (va_rf l0), some (va_rf l1), some (va_rf l2), some (.int l3), some (va_rf v7), some (va_rf v7)]) (pc := 178) hF dX0_gathers_178 (Nat.le_of_ble_eq_true rfl) rfl ?_
          refine s_aload (pc := 180) hF dX0_gathers_180 rfl ?_
          refine s_aload_n (pc := 182) hF dX0_gathers_182 rfl rfl ?_
          refine s_callV (pc := 183) (As := [va_rf l2]) (st := []) (stf := fun r9 => .int r9 :: []) hF (mX3_isOver v7 l2) cw_X3_isOver q727 q728 (List.forall_mem_cons.mpr ⟨⟨(RX3, TX3, 14), rfl, q729⟩, fun _ h9 => absurd h9 List.not_mem_nil⟩) rfl ⟨Nat.le_of_ble_eq_true rfl, Nat.le_of_ble_eq_true rfl⟩ ⟨trivial, Nat.le_of_ble_eq_true rfl⟩ dX0_gathers_183 rfl (fun _ => rfl) (fun v11 M12 z13 => ?_)
          refine s_if_eq (pc := 186) hF 195 dX0_gathers_186 rfl ?_ ?_
          · exact SK.sb (gX0_gathers_J195 hF hr112 ih l0 l1 l2 l3 M12 z13) ⟨rfl, ⟨rfl, ⟨rfl, ⟨rfl, trivial⟩⟩⟩⟩
          · refine s_aload_n (pc := 189) hF dX0_gathers_189 rfl rfl ?_
            refine s_aload (pc := 190) hF dX0_gathers_190 rfl ?_
            refine s_put (pc := 192) hF (pl_X0_172 hF _) dX0_gathers_192 (fun M14 => ?_)
            exact SK.sb (gX0_gathers_J195 hF hr112 ih l0 l1 l2 l3 M14 z13) ⟨rfl, ⟨rfl, ⟨rfl, ⟨rfl, trivial⟩⟩⟩⟩

def fX0_gathers_L112 : Nat → Option Nat → Option Nat → Mp → Nat → Rs Unit
  | 0, _, _, _, _ => none
  | fu + 1, l0, l1, M, z => if ckc M l1 [12] = true then
  (cb (fJ3_hasNext l1 M z) z fun v1 M2 z3 =>
if v1 = 0 then
  (some ((), M2, 0, 0))
else
  (if ckc M2 l1 [12] = true then
  (cb (fJ3_next l1 M2 z3) z3 fun v4 M5 z6 =>
if cst M5 v4 [2, 3] = true then
  (fX0_gathers_L133 (fX0_gathers_L112 fu) FU l0 l1 v4 (0 : Int32) M5 z6)
else none)
else none))
else none

theorem gX0_gathers_L112 {G : Cx} {F : Option Value × Mp × Nat} (hF : FX G cX0_gathers 6 RX0 (Option.none : Option Jvm.ClassFile.FieldType) "gathers" 11 310) : ∀ (fu : Nat) (l0 : Option Nat) (l1 : Option Nat) (M : Mp) (z : Nat), SK G F 6 eV 112 [some (va_rf l0), some (va_rf l1), none, none, none, none] [] M z (fX0_gathers_L112 fu l0 l1 M z) := by
  intro fu
  induction fu with
  | zero => intros; exact SK.fail
  | succ fu ih =>
    intro l0 l1 M z
    rw [fX0_gathers_L112]
    refine s_aload_n (pc := 112) hF dX0_gathers_112 rfl rfl ?_
    refine s_callF (pc := 113) (As := []) (st := []) (stf := fun r9 => .int r9 :: []) (x := ⟨"java/util/Iterator", "hasNext", "()Z"⟩) hF (mJ3_hasNext l1) cw_J3_hasNext rfl ⟨by decide, by decide⟩ q298 q325 n_q300 n_q299 n_q326 (List.forall_mem_cons.mpr ⟨⟨(RJ3, TJ3, 4), rfl, q323, n_q324, n_q322⟩, fun _ h9 => absurd h9 List.not_mem_nil⟩) rfl ⟨Nat.le_of_ble_eq_true rfl, Nat.le_of_ble_eq_true rfl⟩ ⟨trivial, Nat.le_of_ble_eq_true rfl⟩ dX0_gathers_113 rfl (fun _ => rfl) (fun v1 M2 z3 => ?_)
    refine s_if_eq (pc := 118) hF 229 dX0_gathers_118 rfl ?_ ?_
    · exact s_vret (pc := 229) hF dX0_gathers_229
    · refine s_aload_n (pc := 121) hF dX0_gathers_121 rfl rfl ?_
      refine s_callF (pc := 122) (As := []) (st := []) (stf := fun r9 => va_rf r9 :: []) (x := ⟨"java/util/Iterator", "next", "()Ljava/lang/Object;"⟩) hF (mJ3_next l1) cw_J3_next rfl ⟨by decide, by decide⟩ q381 q372 n_q331 n_q330 n_q373 (List.forall_mem_cons.mpr ⟨⟨(RJ3, TJ3, 4), rfl, q370, n_q371, n_q322⟩, fun _ h9 => absurd h9 List.not_mem_nil⟩) rfl ⟨Nat.le_of_ble_eq_true rfl, Nat.le_of_ble_eq_true rfl⟩ ⟨trivial, Nat.le_of_ble_eq_true rfl⟩ dX0_gathers_122 rfl (fun _ => rfl) (fun v4 M5 z6 => ?_)
      refine s_cast (pc := 127) hF q252 (List.forall_mem_cons.mpr ⟨⟨(RX2, TX2, 13), rfl, Or.inl rfl⟩, List.forall_mem_cons.mpr ⟨⟨(RX3, TX3, 14), rfl, Or.inr n_q1359⟩, fun _ h9 => absurd h9 List.not_mem_nil⟩⟩) dX0_gathers_127 ?_
      refine s_astore_n (L9 := [some (va_rf l0), some (va_rf l1), some (va_rf v4), none, none, none]) (pc := 130) hF dX0_gathers_130 rfl (Nat.le_of_ble_eq_true rfl) rfl ?_
      refine s_iconst (pc := 131) hF dX0_gathers_131 (0 : Int32) (by decide) ?_
      refine s_istore_n (L9 := [some (va_rf l0), some (va_rf l1), some (va_rf v4), some (.int (0 : Int32)), none, none]) (pc := 132) hF dX0_gathers_132 rfl (Nat.le_of_ble_eq_true rfl) rfl ?_
      exact SK.sb (gX0_gathers_L133 hF ih FU l0 l1 v4 (0 : Int32) M5 z6) ⟨rfl, ⟨rfl, ⟨rfl, ⟨rfl, trivial⟩⟩⟩⟩

def fX0_gathers_L46 : Nat → Option Nat → Option Nat → Mp → Nat → Rs Unit
  | 0, _, _, _, _ => none
  | fu + 1, l0, l1, M, z => if ckc M l1 [12] = true then
  (cb (fJ3_hasNext l1 M z) z fun v1 M2 z3 =>
if v1 = 0 then
  ((gr M2 l0 [0] 0).bind fun v4 =>
if ckc M2 v4 [11] = true then
  (cb (fJ2_iterator v4 M2 z3) z3 fun v5 M6 z7 =>
fX0_gathers_L112 FU l0 v5 M6 z7)
else none)
else
  (if ckc M2 l1 [12] = true then
  (cb (fJ3_next l1 M2 z3) z3 fun v8 M9 z10 =>
if cst M9 v8 [2, 3] = true then
  ((isH M9 v8).bind fun v11 =>
if v11 = 0 then
  (fX0_gathers_L46 fu l0 l1 M9 z10)
else
  (if cst M9 v8 [3] = true then
  (nwo 5 8 [.null, .null, .int 0, .int 0, .null, .null, .int 0, .null] M9 z10 fun M12 z13 =>
if (some z10) = none then none else
  (cb (fX5_init (some z10) l0 v8 M12 z13) z13 fun _ M15 z16 =>
(pu M15 v8 [3] 10 (va_rf (some z10))).bind fun M17 =>
(gr M17 v8 [3] 10).bind fun v18 =>
(pu M17 v18 [5] 2 (.int (-9 : Int32))).bind fun M19 =>
fX0_gathers_L46 fu l0 l1 M19 z16))
else none))
else none)
else none))
else none

theorem gX0_gathers_L46 {G : Cx} {F : Option Value × Mp × Nat} (hF : FX G cX0_gathers 6 RX0 (Option.none : Option Jvm.ClassFile.FieldType) "gathers" 11 310) : ∀ (fu : Nat) (l0 : Option Nat) (l1 : Option Nat) (M : Mp) (z : Nat), SK G F 6 eV 46 [some (va_rf l0), some (va_rf l1), none, none, none, none] [] M z (fX0_gathers_L46 fu l0 l1 M z) := by
  intro fu
  induction fu with
  | zero => intros; exact SK.fail
  | succ fu ih =>
    intro l0 l1 M z
    rw [fX0_gathers_L46]
    refine s_aload_n (pc := 46) hF dX0_gathers_46 rfl rfl ?_
    refine s_callF (pc := 47) (As := []) (st := []) (stf := fun r9 => .int r9 :: []) (x := ⟨"java/util/Iterator", "hasNext", "()Z"⟩) hF (mJ3_hasNext l1) cw_J3_hasNext rfl ⟨by decide, by decide⟩ q298 q325 n_q300 n_q299 n_q326 (List.forall_mem_cons.mpr ⟨⟨(RJ3, TJ3, 4), rfl, q323, n_q324, n_q322⟩, fun _ h9 => absurd h9 List.not_mem_nil⟩) rfl ⟨Nat.le_of_ble_eq_true rfl, Nat.le_of_ble_eq_true rfl⟩ ⟨trivial, Nat.le_of_ble_eq_true rfl⟩ dX0_gathers_47 rfl (fun _ => rfl) (fun v1 M2 z3 => ?_)
    refine s_if_eq (pc := 52) hF 102 dX0_gathers_52 rfl ?_ ?_
    · refine s_aload_n (pc := 102) hF dX0_gathers_102 rfl rfl ?_
      refine s_getr (pc := 103) hF (fl_X0_14 hF) dX0_gathers_103 (fun v4 => ?_)
      refine s_callF (pc := 106) (As := []) (st := []) (stf := fun r9 => va_rf r9 :: []) (x := ⟨"java/util/List", "iterator", "()Ljava/util/Iterator;"⟩) hF (mJ2_iterator v4) cw_J2_iterator rfl ⟨by decide, by decide⟩ q270 q275 n_q272 n_q271 n_q276 (List.forall_mem_cons.mpr ⟨⟨(RJ2, TJ2, 3), rfl, q273, n_q274, n_q155⟩, fun _ h9 => absurd h9 List.not_mem_nil⟩) rfl ⟨Nat.le_of_ble_eq_true rfl, Nat.le_of_ble_eq_true rfl⟩ ⟨trivial, Nat.le_of_ble_eq_true rfl⟩ dX0_gathers_106 rfl (fun _ => rfl) (fun v5 M6 z7 => ?_)
      refine s_astore_n (L9 := [some (va_rf l0), some (va_rf v5), none, none, none, none]) (pc := 111) hF dX0_gathers_111 rfl (Nat.le_of_ble_eq_true rfl) rfl ?_
      exact SK.sb (gX0_gathers_L112 hF FU l0 v5 M6 z7) ⟨rfl, ⟨rfl, trivial⟩⟩
    · refine s_aload_n (pc := 55) hF dX0_gathers_55 rfl rfl ?_
      refine s_callF (pc := 56) (As := []) (st := []) (stf := fun r9 => va_rf r9 :: []) (x := ⟨"java/util/Iterator", "next", "()Ljava/lang/Object;"⟩) hF (mJ3_next l1) cw_J3_next rfl ⟨by decide, by decide⟩ q381 q372 n_q331 n_q330 n_q373 (List.forall_mem_cons.mpr ⟨⟨(RJ3, TJ3, 4), rfl, q370, n_q371, n_q322⟩, fun _ h9 => absurd h9 List.not_mem_nil⟩) rfl ⟨Nat.le_of_ble_eq_true rfl, Nat.le_of_ble_eq_true rfl⟩ ⟨trivial, Nat.le_of_ble_eq_true rfl⟩ dX0_gathers_56 rfl (fun _ => rfl) (fun v8 M9 z10 => ?_)
      refine s_cast (pc := 61) hF q252 (List.forall_mem_cons.mpr ⟨⟨(RX2, TX2, 13), rfl, Or.inl rfl⟩, List.forall_mem_cons.mpr ⟨⟨(RX3, TX3, 14), rfl, Or.inr n_q1359⟩, fun _ h9 => absurd h9 List.not_mem_nil⟩⟩) dX0_gathers_61 ?_
      refine s_astore_n (L9 := [some (va_rf l0), some (va_rf l1), some (va_rf v8), none, none, none]) (pc := 64) hF dX0_gathers_64 rfl (Nat.le_of_ble_eq_true rfl) rfl ?_
      refine s_aload_n (pc := 65) hF dX0_gathers_65 rfl rfl ?_
      refine s_inst (pc := 66) hF q161 dX0_gathers_66 (fun v11 => ?_)
      refine s_if_eq (pc := 69) hF 99 dX0_gathers_69 rfl ?_ ?_
      · refine s_goto (pc := 99) hF 46 dX0_gathers_99 rfl ?_
        exact SK.sb (ih l0 l1 M9 z10) ⟨rfl, ⟨rfl, trivial⟩⟩
      · refine s_aload_n (pc := 72) hF dX0_gathers_72 rfl rfl ?_
        refine s_cast (pc := 73) hF q161 (List.forall_mem_cons.mpr ⟨⟨(RX3, TX3, 14), rfl, Or.inl rfl⟩, fun _ h9 => absurd h9 List.not_mem_nil⟩) dX0_gathers_73 ?_
        refine s_astore_n (L9 := [some (va_rf l0), some (va_rf l1), some (va_rf v8), some (va_rf v8), none, none]) (pc := 76) hF dX0_gathers_76 rfl (Nat.le_of_ble_eq_true rfl) rfl ?_
        refine s_aload_n (pc := 77) hF dX0_gathers_77 rfl rfl ?_
        refine s_nwo (pc := 78) hF dX0_gathers_78 rfl in_X5 tyX5 tyX5_ok q685 q686 q74 (fun j hj => by rcases (show j = 0 ∨ j = 1 ∨ j = 2 ∨ j = 3 ∨ j = 4 ∨ j = 5 ∨ j = 6 ∨ j = 7 by omega) with rfl | rfl | rfl | rfl | rfl | rfl | rfl | rfl <;> rfl) (fun M12 z13 => ?_)
        refine s_dup (pc := 81) hF dX0_gathers_81 (ct _) ?_
        refine s_aload_n (pc := 82) hF dX0_gathers_82 rfl rfl ?_
        refine s_aload_n (pc := 83) hF dX0_gathers_83 rfl rfl ?_
        refine s_callJ (pc := 84) (As := [va_rf l0, va_rf v8]) (st := [va_rf (some z10), va_rf v8]) (stf := fun r9 => [va_rf (some z10), va_rf v8]) hF (mX5_init (some z10) l0 v8) cw_X5_init q687 q688 rfl rfl ⟨Nat.le_of_ble_eq_true rfl, Nat.le_of_ble_eq_true rfl⟩ ⟨⟨ct _, ⟨ct _, trivial⟩⟩, Nat.le_of_ble_eq_true rfl⟩ dX0_gathers_84 rfl (fun _ => rfl) (fun v14 M15 z16 => ?_)
        refine s_put (pc := 87) hF (pl_X0_161 hF _) dX0_gathers_87 (fun M17 => ?_)
        refine s_aload_n (pc := 90) hF dX0_gathers_90 rfl rfl ?_
        refine s_getr (pc := 91) hF (fl_X0_161 hF) dX0_gathers_91 (fun v18 => ?_)
        refine s_bipush (pc := 94) hF dX0_gathers_94 (-9 : Int32) (by decide) ?_
        refine s_put (pc := 96) hF (pl_X0_165 hF _) dX0_gathers_96 (fun M19 => ?_)
        refine s_goto (pc := 99) hF 46 dX0_gathers_99 rfl ?_
        exact SK.sb (ih l0 l1 M19 z16) ⟨rfl, ⟨rfl, trivial⟩⟩

def fX0_gathers_L10 : Nat → Option Nat → Option Nat → Mp → Nat → Rs Unit
  | 0, _, _, _, _ => none
  | fu + 1, l0, l1, M, z => if ckc M l1 [12] = true then
  (cb (fJ3_hasNext l1 M z) z fun v1 M2 z3 =>
if v1 = 0 then
  ((gr M2 l0 [0] 0).bind fun v4 =>
if ckc M2 v4 [11] = true then
  (cb (fJ2_iterator v4 M2 z3) z3 fun v5 M6 z7 =>
fX0_gathers_L46 FU l0 v5 M6 z7)
else none)
else
  (if ckc M2 l1 [12] = true then
  (cb (fJ3_next l1 M2 z3) z3 fun v8 M9 z10 =>
if cst M9 v8 [2, 3] = true then
  (if ckc M9 v8 [2, 3] = true then
  (cb (fX2_forgets v8 M9 z10) z10 fun _ M12 z13 =>
fX0_gathers_L10 fu l0 l1 M12 z13)
else none)
else none)
else none))
else none

theorem gX0_gathers_L10 {G : Cx} {F : Option Value × Mp × Nat} (hF : FX G cX0_gathers 6 RX0 (Option.none : Option Jvm.ClassFile.FieldType) "gathers" 11 310) : ∀ (fu : Nat) (l0 : Option Nat) (l1 : Option Nat) (M : Mp) (z : Nat), SK G F 6 eV 10 [some (va_rf l0), some (va_rf l1), none, none, none, none] [] M z (fX0_gathers_L10 fu l0 l1 M z) := by
  intro fu
  induction fu with
  | zero => intros; exact SK.fail
  | succ fu ih =>
    intro l0 l1 M z
    rw [fX0_gathers_L10]
    refine s_aload_n (pc := 10) hF dX0_gathers_10 rfl rfl ?_
    refine s_callF (pc := 11) (As := []) (st := []) (stf := fun r9 => .int r9 :: []) (x := ⟨"java/util/Iterator", "hasNext", "()Z"⟩) hF (mJ3_hasNext l1) cw_J3_hasNext rfl ⟨by decide, by decide⟩ q298 q325 n_q300 n_q299 n_q326 (List.forall_mem_cons.mpr ⟨⟨(RJ3, TJ3, 4), rfl, q323, n_q324, n_q322⟩, fun _ h9 => absurd h9 List.not_mem_nil⟩) rfl ⟨Nat.le_of_ble_eq_true rfl, Nat.le_of_ble_eq_true rfl⟩ ⟨trivial, Nat.le_of_ble_eq_true rfl⟩ dX0_gathers_11 rfl (fun _ => rfl) (fun v1 M2 z3 => ?_)
    refine s_if_eq (pc := 16) hF 36 dX0_gathers_16 rfl ?_ ?_
    · refine s_aload_n (pc := 36) hF dX0_gathers_36 rfl rfl ?_
      refine s_getr (pc := 37) hF (fl_X0_14 hF) dX0_gathers_37 (fun v4 => ?_)
      refine s_callF (pc := 40) (As := []) (st := []) (stf := fun r9 => va_rf r9 :: []) (x := ⟨"java/util/List", "iterator", "()Ljava/util/Iterator;"⟩) hF (mJ2_iterator v4) cw_J2_iterator rfl ⟨by decide, by decide⟩ q270 q275 n_q272 n_q271 n_q276 (List.forall_mem_cons.mpr ⟨⟨(RJ2, TJ2, 3), rfl, q273, n_q274, n_q155⟩, fun _ h9 => absurd h9 List.not_mem_nil⟩) rfl ⟨Nat.le_of_ble_eq_true rfl, Nat.le_of_ble_eq_true rfl⟩ ⟨trivial, Nat.le_of_ble_eq_true rfl⟩ dX0_gathers_40 rfl (fun _ => rfl) (fun v5 M6 z7 => ?_)
      refine s_astore_n (L9 := [some (va_rf l0), some (va_rf v5), none, none, none, none]) (pc := 45) hF dX0_gathers_45 rfl (Nat.le_of_ble_eq_true rfl) rfl ?_
      exact SK.sb (gX0_gathers_L46 hF FU l0 v5 M6 z7) ⟨rfl, ⟨rfl, trivial⟩⟩
    · refine s_aload_n (pc := 19) hF dX0_gathers_19 rfl rfl ?_
      refine s_callF (pc := 20) (As := []) (st := []) (stf := fun r9 => va_rf r9 :: []) (x := ⟨"java/util/Iterator", "next", "()Ljava/lang/Object;"⟩) hF (mJ3_next l1) cw_J3_next rfl ⟨by decide, by decide⟩ q381 q372 n_q331 n_q330 n_q373 (List.forall_mem_cons.mpr ⟨⟨(RJ3, TJ3, 4), rfl, q370, n_q371, n_q322⟩, fun _ h9 => absurd h9 List.not_mem_nil⟩) rfl ⟨Nat.le_of_ble_eq_true rfl, Nat.le_of_ble_eq_true rfl⟩ ⟨trivial, Nat.le_of_ble_eq_true rfl⟩ dX0_gathers_20 rfl (fun _ => rfl) (fun v8 M9 z10 => ?_)
      refine s_cast (pc := 25) hF q252 (List.forall_mem_cons.mpr ⟨⟨(RX2, TX2, 13), rfl, Or.inl rfl⟩, List.forall_mem_cons.mpr ⟨⟨(RX3, TX3, 14), rfl, Or.inr n_q1359⟩, fun _ h9 => absurd h9 List.not_mem_nil⟩⟩) dX0_gathers_25 ?_
      refine s_astore_n (L9 := [some (va_rf l0), some (va_rf l1), some (va_rf v8), none, none, none]) (pc := 28) hF dX0_gathers_28 rfl (Nat.le_of_ble_eq_true rfl) rfl ?_
      refine s_aload_n (pc := 29) hF dX0_gathers_29 rfl rfl ?_
      refine s_callV (pc := 30) (As := []) (st := []) (stf := fun r9 => []) hF (mX2_forgets v8) cw_X2_forgets q679 q680 (List.forall_mem_cons.mpr ⟨⟨(RX2, TX2, 13), rfl, q681⟩, List.forall_mem_cons.mpr ⟨⟨(RX3, TX3, 14), rfl, q683⟩, fun _ h9 => absurd h9 List.not_mem_nil⟩⟩) rfl ⟨Nat.le_of_ble_eq_true rfl, Nat.le_of_ble_eq_true rfl⟩ ⟨trivial, Nat.le_of_ble_eq_true rfl⟩ dX0_gathers_30 rfl (fun _ => rfl) (fun v11 M12 z13 => ?_)
      refine s_goto (pc := 33) hF 10 dX0_gathers_33 rfl ?_
      exact SK.sb (ih l0 l1 M12 z13) ⟨rfl, ⟨rfl, trivial⟩⟩
def fX0_gathers (a0 : Option Nat) (M : Mp) (z : Nat) : Rs Unit := (gr M a0 [0] 0).bind fun v1 =>
if ckc M v1 [11] = true then
  (cb (fJ2_iterator v1 M z) z fun v2 M3 z4 =>
fX0_gathers_L10 FU a0 v2 M3 z4)
else none
theorem gX0_gathers {G : Cx} {F : Option Value × Mp × Nat} (hF : FX G cX0_gathers 6 RX0 (Option.none : Option Jvm.ClassFile.FieldType) "gathers" 11 310) (a0 : Option Nat) (M : Mp) (z : Nat) : SK G F 6 eV 0 [some (va_rf a0), none, none, none, none, none] [] M z (fX0_gathers a0 M z) := by
  unfold fX0_gathers
  refine s_aload_n (pc := 0) hF dX0_gathers_0 rfl rfl ?_
  refine s_getr (pc := 1) hF (fl_X0_14 hF) dX0_gathers_1 (fun v1 => ?_)
  refine s_callF (pc := 4) (As := []) (st := []) (stf := fun r9 => va_rf r9 :: []) (x := ⟨"java/util/List", "iterator", "()Ljava/util/Iterator;"⟩) hF (mJ2_iterator v1) cw_J2_iterator rfl ⟨by decide, by decide⟩ q270 q275 n_q272 n_q271 n_q276 (List.forall_mem_cons.mpr ⟨⟨(RJ2, TJ2, 3), rfl, q273, n_q274, n_q155⟩, fun _ h9 => absurd h9 List.not_mem_nil⟩) rfl ⟨Nat.le_of_ble_eq_true rfl, Nat.le_of_ble_eq_true rfl⟩ ⟨trivial, Nat.le_of_ble_eq_true rfl⟩ dX0_gathers_4 rfl (fun _ => rfl) (fun v2 M3 z4 => ?_)
  refine s_astore_n (L9 := [some (va_rf a0), some (va_rf v2), none, none, none, none]) (pc := 9) hF dX0_gathers_9 rfl (Nat.le_of_ble_eq_true rfl) rfl ?_
  exact SK.sb (gX0_gathers_L10 hF FU a0 v2 M3 z4) ⟨rfl, ⟨rfl, trivial⟩⟩
theorem mX0_gathers (a0 : Option Nat) : MT yX0_gathers cX0_gathers 6 (Option.none : Option Jvm.ClassFile.FieldType) 11 310 eV [va_rf a0] (fX0_gathers a0) :=
  MT.of (L0 := [some (va_rf a0), none, none, none, none, none]) (by decide) ⟨ct _, trivial⟩ (Nat.le_of_ble_eq_true rfl) rfl (fun _ _ hF M z => gX0_gathers hF a0 M z)

theorem fl_X2_3 {G : Cx} {nL fr lc : Nat} {cc : ByteArray} {ret : Option FieldType} {nm : String} (hF : FX G cc nL RX2 ret nm fr lc) : ∀ c ∈ [2, 3], GF G RX2 3 c 12 := by
  obtain ⟨⟨p, l, e, R, s, m, args, below, meth, c0⟩, A, D, dA, mi⟩ := G
  obtain ⟨hx, hb, hml, hown, hts, hr, hlk, hK, hnm, hfr, hlc⟩ := hF
  exact List.forall_mem_cons.mpr ⟨⟨RX2, TX2, 13, "StoryColumns$Block", rfl, in_X2, Nat.le_of_ble_eq_true rfl, Or.inl (hts _ q222), fun _ h => h⟩, List.forall_mem_cons.mpr ⟨⟨RX3, TX3, 14, "StoryColumns$Block", rfl, in_X3, Nat.le_of_ble_eq_true rfl, Or.inl (hts _ q222), fun _ h => h⟩, fun _ h9 => absurd h9 List.not_mem_nil⟩⟩
def fX2_takes_J58 (l0 : Option Nat) (l1 : Option Nat) (s0 : Int32) (M : Mp) (z : Nat) : Rs Int32 := if s0 = 0 then
  (some ((0 : Int32), M, 0, 0))
else
  ((gr M l0 [2, 3] 12).bind fun v1 =>
(gi M l0 [2, 3] 1).bind fun v2 =>
(gi M l1 [2, 3] 3).bind fun v3 =>
(gi M l0 [2, 3] 5).bind fun v4 =>
(gi M l1 [2, 3] 5).bind fun v5 =>
(gi M l0 [2, 3] 6).bind fun v6 =>
(gi M l1 [2, 3] 6).bind fun v7 =>
if ckc M v1 [0] = true then
  (cb (fX0_isBarred v1 v2 v3 (mx v4 v5) (mn v6 v7) M z) z fun v8 M9 z10 =>
if v8 = 0 then
  (some ((1 : Int32), M9, 0, 0))
else
  (some ((0 : Int32), M9, 0, 0)))
else none)

theorem gX2_takes_J58 {G : Cx} {F : Option Value × Mp × Nat} (hF : FX G cX2_takes 3 RX2 (Option.some Jvm.ClassFile.FieldType.boolean) "takes" 4 91) (l0 : Option Nat) (l1 : Option Nat) (s0 : Int32) (M : Mp) (z : Nat) : SK G F 3 eI 58 [some (va_rf l0), some (va_rf l1), none] [.int s0] M z (fX2_takes_J58 l0 l1 s0 M z) := by
  unfold fX2_takes_J58
  refine s_istore_n (L9 := [some (va_rf l0), some (va_rf l1), some (.int s0)]) (pc := 58) hF dX2_takes_58 rfl (Nat.le_of_ble_eq_true rfl) rfl ?_
  refine s_iload_n (pc := 59) hF dX2_takes_59 rfl rfl ?_
  refine s_if_eq (pc := 60) hF 107 dX2_takes_60 rfl ?_ ?_
  · refine s_iconst (pc := 107) hF dX2_takes_107 (0 : Int32) (by decide) ?_
    exact s_zretL (pc := 108) hF dX2_takes_108 (by decide)
  · refine s_aload_n (pc := 63) hF dX2_takes_63 rfl rfl ?_
    refine s_getr (pc := 64) hF (fl_X2_3 hF) dX2_takes_64 (fun v1 => ?_)
    refine s_aload_n (pc := 67) hF dX2_takes_67 rfl rfl ?_
    refine s_geti (pc := 68) hF (fl_X2_28 hF) dX2_takes_68 (fun v2 => ?_)
    refine s_aload_n (pc := 71) hF dX2_takes_71 rfl rfl ?_
    refine s_geti (pc := 72) hF (fl_X2_34 hF) dX2_takes_72 (fun v3 => ?_)
    refine s_aload_n (pc := 75) hF dX2_takes_75 rfl rfl ?_
    refine s_geti (pc := 76) hF (fl_X2_40 hF) dX2_takes_76 (fun v4 => ?_)
    refine s_aload_n (pc := 79) hF dX2_takes_79 rfl rfl ?_
    refine s_geti (pc := 80) hF (fl_X2_40 hF) dX2_takes_80 (fun v5 => ?_)
    refine s_max (pc := 83) hF q773 ⟨Nat.le_of_ble_eq_true rfl, Nat.le_of_ble_eq_true rfl⟩ ⟨⟨rfl, ⟨rfl, ⟨ct _, trivial⟩⟩⟩, Nat.le_of_ble_eq_true rfl⟩ dX2_takes_83 ?_
    refine s_aload_n (pc := 86) hF dX2_takes_86 rfl rfl ?_
    refine s_geti (pc := 87) hF (fl_X2_43 hF) dX2_takes_87 (fun v6 => ?_)
    refine s_aload_n (pc := 90) hF dX2_takes_90 rfl rfl ?_
    refine s_geti (pc := 91) hF (fl_X2_43 hF) dX2_takes_91 (fun v7 => ?_)
    refine s_min (pc := 94) hF q774 ⟨Nat.le_of_ble_eq_true rfl, Nat.le_of_ble_eq_true rfl⟩ ⟨⟨rfl, ⟨rfl, ⟨rfl, ⟨ct _, trivial⟩⟩⟩⟩, Nat.le_of_ble_eq_true rfl⟩ dX2_takes_94 ?_
    refine s_callN (pc := 97) (As := [.int v2, .int v3, .int (mx v4 v5), .int (mn v6 v7)]) (st := []) (stf := fun r9 => .int r9 :: []) hF (mX0_isBarred v1 v2 v3 (mx v4 v5) (mn v6 v7)) cw_X0_isBarred n_q775 q653 (List.forall_mem_cons.mpr ⟨⟨(RX0, TX0, 6), rfl, qs7⟩, fun _ h9 => absurd h9 List.not_mem_nil⟩) rfl ⟨Nat.le_of_ble_eq_true rfl, Nat.le_of_ble_eq_true rfl⟩ ⟨trivial, Nat.le_of_ble_eq_true rfl⟩ dX2_takes_97 rfl (fun _ => rfl) (fun v8 M9 z10 => ?_)
    refine s_if_ne (pc := 100) hF 107 dX2_takes_100 rfl ?_ ?_
    · refine s_iconst (pc := 107) hF dX2_takes_107 (0 : Int32) (by decide) ?_
      exact s_zretL (pc := 108) hF dX2_takes_108 (by decide)
    · refine s_iconst (pc := 103) hF dX2_takes_103 (1 : Int32) (by decide) ?_
      refine s_goto (pc := 104) hF 108 dX2_takes_104 rfl ?_
      exact s_zretL (pc := 108) hF dX2_takes_108 (by decide)
def fX2_takes (a0 : Option Nat) (a1 : Option Nat) (M : Mp) (z : Nat) : Rs Int32 := if ckc M a0 [2, 3] = true then
  (cb (fX2_isText a0 M z) z fun v1 M2 z3 =>
if v1 = 0 then
  (fX2_takes_J58 a0 a1 (0 : Int32) M2 z3)
else
  ((gi M2 a0 [2, 3] 1).bind fun v4 =>
(gi M2 a1 [2, 3] 1).bind fun v5 =>
if v4 = v5 then
  ((gi M2 a0 [2, 3] 4).bind fun v6 =>
(gi M2 a1 [2, 3] 3).bind fun v7 =>
if v6 = (v7 - (1 : Int32)) then
  ((gi M2 a0 [2, 3] 5).bind fun v8 =>
(gi M2 a1 [2, 3] 6).bind fun v9 =>
if v9 < v8 then
  (fX2_takes_J58 a0 a1 (0 : Int32) M2 z3)
else
  ((gi M2 a1 [2, 3] 5).bind fun v10 =>
(gi M2 a0 [2, 3] 6).bind fun v11 =>
if v11 < v10 then
  (fX2_takes_J58 a0 a1 (0 : Int32) M2 z3)
else
  (fX2_takes_J58 a0 a1 (1 : Int32) M2 z3)))
else
  (fX2_takes_J58 a0 a1 (0 : Int32) M2 z3))
else
  (fX2_takes_J58 a0 a1 (0 : Int32) M2 z3)))
else none
theorem gX2_takes {G : Cx} {F : Option Value × Mp × Nat} (hF : FX G cX2_takes 3 RX2 (Option.some Jvm.ClassFile.FieldType.boolean) "takes" 4 91) (a0 : Option Nat) (a1 : Option Nat) (M : Mp) (z : Nat) : SK G F 3 eI 0 [some (va_rf a0), some (va_rf a1), none] [] M z (fX2_takes a0 a1 M z) := by
  unfold fX2_takes
  refine s_aload_n (pc := 0) hF dX2_takes_0 rfl rfl ?_
  refine s_callV (pc := 1) (As := []) (st := []) (stf := fun r9 => .int r9 :: []) hF (mX2_isText a0) cw_X2_isText q772 q525 (List.forall_mem_cons.mpr ⟨⟨(RX2, TX2, 13), rfl, q526⟩, List.forall_mem_cons.mpr ⟨⟨(RX3, TX3, 14), rfl, q528⟩, fun _ h9 => absurd h9 List.not_mem_nil⟩⟩) rfl ⟨Nat.le_of_ble_eq_true rfl, Nat.le_of_ble_eq_true rfl⟩ ⟨trivial, Nat.le_of_ble_eq_true rfl⟩ dX2_takes_1 rfl (fun _ => rfl) (fun v1 M2 z3 => ?_)
  refine s_if_eq (pc := 4) hF 57 dX2_takes_4 rfl ?_ ?_
  · refine s_iconst (pc := 57) hF dX2_takes_57 (0 : Int32) (by decide) ?_
    exact SK.sb (gX2_takes_J58 hF a0 a1 (0 : Int32) M2 z3) ⟨rfl, ⟨rfl, trivial⟩⟩
  · refine s_aload_n (pc := 7) hF dX2_takes_7 rfl rfl ?_
    refine s_geti (pc := 8) hF (fl_X2_28 hF) dX2_takes_8 (fun v4 => ?_)
    refine s_aload_n (pc := 11) hF dX2_takes_11 rfl rfl ?_
    refine s_geti (pc := 12) hF (fl_X2_28 hF) dX2_takes_12 (fun v5 => ?_)
    refine s_icmp_ne (pc := 15) hF 57 dX2_takes_15 rfl ?_ ?_
    · refine s_iconst (pc := 57) hF dX2_takes_57 (0 : Int32) (by decide) ?_
      exact SK.sb (gX2_takes_J58 hF a0 a1 (0 : Int32) M2 z3) ⟨rfl, ⟨rfl, trivial⟩⟩
    · refine s_aload_n (pc := 18) hF dX2_takes_18 rfl rfl ?_
      refine s_geti (pc := 19) hF (fl_X2_37 hF) dX2_takes_19 (fun v6 => ?_)
      refine s_aload_n (pc := 22) hF dX2_takes_22 rfl rfl ?_
      refine s_geti (pc := 23) hF (fl_X2_34 hF) dX2_takes_23 (fun v7 => ?_)
      refine s_iconst (pc := 26) hF dX2_takes_26 (1 : Int32) (by decide) ?_
      refine s_isub (pc := 27) hF dX2_takes_27 ?_
      refine s_icmp_ne (pc := 28) hF 57 dX2_takes_28 rfl ?_ ?_
      · refine s_iconst (pc := 57) hF dX2_takes_57 (0 : Int32) (by decide) ?_
        exact SK.sb (gX2_takes_J58 hF a0 a1 (0 : Int32) M2 z3) ⟨rfl, ⟨rfl, trivial⟩⟩
      · refine s_aload_n (pc := 31) hF dX2_takes_31 rfl rfl ?_
        refine s_geti (pc := 32) hF (fl_X2_40 hF) dX2_takes_32 (fun v8 => ?_)
        refine s_aload_n (pc := 35) hF dX2_takes_35 rfl rfl ?_
        refine s_geti (pc := 36) hF (fl_X2_43 hF) dX2_takes_36 (fun v9 => ?_)
        refine s_icmp_gt (pc := 39) hF 57 dX2_takes_39 rfl ?_ ?_
        · refine s_iconst (pc := 57) hF dX2_takes_57 (0 : Int32) (by decide) ?_
          exact SK.sb (gX2_takes_J58 hF a0 a1 (0 : Int32) M2 z3) ⟨rfl, ⟨rfl, trivial⟩⟩
        · refine s_aload_n (pc := 42) hF dX2_takes_42 rfl rfl ?_
          refine s_geti (pc := 43) hF (fl_X2_40 hF) dX2_takes_43 (fun v10 => ?_)
          refine s_aload_n (pc := 46) hF dX2_takes_46 rfl rfl ?_
          refine s_geti (pc := 47) hF (fl_X2_43 hF) dX2_takes_47 (fun v11 => ?_)
          refine s_icmp_gt (pc := 50) hF 57 dX2_takes_50 rfl ?_ ?_
          · refine s_iconst (pc := 57) hF dX2_takes_57 (0 : Int32) (by decide) ?_
            exact SK.sb (gX2_takes_J58 hF a0 a1 (0 : Int32) M2 z3) ⟨rfl, ⟨rfl, trivial⟩⟩
          · refine s_iconst (pc := 53) hF dX2_takes_53 (1 : Int32) (by decide) ?_
            refine s_goto (pc := 54) hF 58 dX2_takes_54 rfl ?_
            exact SK.sb (gX2_takes_J58 hF a0 a1 (1 : Int32) M2 z3) ⟨rfl, ⟨rfl, trivial⟩⟩
theorem mX2_takes (a0 : Option Nat) (a1 : Option Nat) : MT yX2_takes cX2_takes 3 (Option.some Jvm.ClassFile.FieldType.boolean) 4 91 eI [va_rf a0, va_rf a1] (fX2_takes a0 a1) :=
  MT.of (L0 := [some (va_rf a0), some (va_rf a1), none]) (by decide) ⟨ct _, ⟨ct _, trivial⟩⟩ (Nat.le_of_ble_eq_true rfl) rfl (fun _ _ hF M z => gX2_takes hF a0 a1 M z)

theorem fl_X0_180 {G : Cx} {nL fr lc : Nat} {cc : ByteArray} {ret : Option FieldType} {nm : String} (hF : FX G cc nL RX0 ret nm fr lc) : ∀ c ∈ [2, 3], GF G RX0 180 c 10 := by
  obtain ⟨⟨p, l, e, R, s, m, args, below, meth, c0⟩, A, D, dA, mi⟩ := G
  obtain ⟨hx, hb, hml, hown, hts, hr, hlk, hK, hnm, hfr, hlc⟩ := hF
  exact List.forall_mem_cons.mpr ⟨⟨RX2, TX2, 13, "StoryColumns$Block", rfl, in_X2, Nat.le_of_ble_eq_true rfl, Or.inl (hts _ q218), fun _ h => h⟩, List.forall_mem_cons.mpr ⟨⟨RX3, TX3, 14, "StoryColumns$Block", rfl, in_X3, Nat.le_of_ble_eq_true rfl, Or.inl (hts _ q218), fun _ h => h⟩, fun _ h9 => absurd h9 List.not_mem_nil⟩⟩
theorem cw_X2_takes : CWm yX2_takes cX2_takes 3 (Option.some Jvm.ClassFile.FieldType.boolean) 1 := ⟨q771, q64, by decide +kernel, by decide +kernel, by decide +kernel⟩
def fX0_takerOf_J83 (r4 : Option Nat → Option Nat → Option Nat → Int32 → Mp → Nat → Rs (Option Nat)) (l0 : Option Nat) (l1 : Option Nat) (l3 : Int32) (s0 : Option Nat) (M : Mp) (z : Nat) : Rs (Option Nat) := r4 l0 l1 s0 (l3 + 1) M z

theorem gX0_takerOf_J83 {G : Cx} {F : Option Value × Mp × Nat}  {r4 : Option Nat → Option Nat → Option Nat → Int32 → Mp → Nat → Rs (Option Nat)}(hF : FX G cX0_takerOf 6 RX0 (Option.some (Jvm.ClassFile.FieldType.object "StoryColumns$Block")) "takerOf" 5 113) (hr4 : ∀ l0 l1 l2 l3 M z, SK G F 6 eR 4 [some (va_rf l0), some (va_rf l1), some (va_rf l2), some (.int l3), none, none] [] M z (r4 l0 l1 l2 l3 M z)) (l0 : Option Nat) (l1 : Option Nat) (l3 : Int32) (s0 : Option Nat) (M : Mp) (z : Nat) : SK G F 6 eR 83 [some (va_rf l0), some (va_rf l1), none, some (.int l3), none, none] [va_rf s0] M z (fX0_takerOf_J83 r4 l0 l1 l3 s0 M z) := by
  unfold fX0_takerOf_J83
  refine s_astore_n (L9 := [some (va_rf l0), some (va_rf l1), some (va_rf s0), some (.int l3), none, none]) (pc := 83) hF dX0_takerOf_83 rfl (Nat.le_of_ble_eq_true rfl) rfl ?_
  refine s_iinc (v := l3 + 1) (L9 := [some (va_rf l0), some (va_rf l1), some (va_rf s0), some (.int (l3 + 1)), none, none]) (pc := 84) hF dX0_takerOf_84 rfl rfl (Nat.le_of_ble_eq_true rfl) rfl ?_
  refine s_goto (pc := 87) hF 4 dX0_takerOf_87 rfl ?_
  exact SK.sb (hr4 l0 l1 s0 (l3 + 1) M z) ⟨rfl, ⟨rfl, ⟨rfl, ⟨rfl, trivial⟩⟩⟩⟩

def fX0_takerOf_J54 (r4 : Option Nat → Option Nat → Option Nat → Int32 → Mp → Nat → Rs (Option Nat)) (l0 : Option Nat) (l1 : Option Nat) (l2 : Option Nat) (l3 : Int32) (l4 : Option Nat) (s0 : Int32) (M : Mp) (z : Nat) : Rs (Option Nat) := if s0 = 0 then
  (fX0_takerOf_J83 r4 l0 l1 l3 l2 M z)
else
  (if l2 = none then
  (fX0_takerOf_J83 r4 l0 l1 l3 l4 M z)
else
  ((gi M l4 [2, 3] 5).bind fun v1 =>
(gi M l2 [2, 3] 5).bind fun v2 =>
if v1 < v2 then
  (fX0_takerOf_J83 r4 l0 l1 l3 l4 M z)
else
  (fX0_takerOf_J83 r4 l0 l1 l3 l2 M z)))

theorem gX0_takerOf_J54 {G : Cx} {F : Option Value × Mp × Nat}  {r4 : Option Nat → Option Nat → Option Nat → Int32 → Mp → Nat → Rs (Option Nat)}(hF : FX G cX0_takerOf 6 RX0 (Option.some (Jvm.ClassFile.FieldType.object "StoryColumns$Block")) "takerOf" 5 113) (hr4 : ∀ l0 l1 l2 l3 M z, SK G F 6 eR 4 [some (va_rf l0), some (va_rf l1), some (va_rf l2), some (.int l3), none, none] [] M z (r4 l0 l1 l2 l3 M z)) (l0 : Option Nat) (l1 : Option Nat) (l2 : Option Nat) (l3 : Int32) (l4 : Option Nat) (s0 : Int32) (M : Mp) (z : Nat) : SK G F 6 eR 54 [some (va_rf l0), some (va_rf l1), some (va_rf l2), some (.int l3), some (va_rf l4), none] [.int s0] M z (fX0_takerOf_J54 r4 l0 l1 l2 l3 l4 s0 M z) := by
  unfold fX0_takerOf_J54
  refine s_istore (L9 := [some (va_rf l0), some (va_rf l1), some (va_rf l2), some (.int l3), some (va_rf l4), some (.int s0)]) (pc := 54) hF dX0_takerOf_54 (Nat.le_of_ble_eq_true rfl) rfl ?_
  refine s_iload (pc := 56) hF dX0_takerOf_56 rfl ?_
  refine s_if_eq (pc := 58) hF 82 dX0_takerOf_58 rfl ?_ ?_
  · refine s_aload_n (pc := 82) hF dX0_takerOf_82 rfl rfl ?_
    exact SK.sb (gX0_takerOf_J83 hF hr4 l0 l1 l3 l2 M z) ⟨rfl, ⟨rfl, ⟨rfl, trivial⟩⟩⟩
  · refine s_aload_n (pc := 61) hF dX0_takerOf_61 rfl rfl ?_
    refine s_ifnull (pc := 62) hF 77 dX0_takerOf_62 rfl ?_ ?_
    · refine s_aload (pc := 77) hF dX0_takerOf_77 rfl ?_
      refine s_goto (pc := 79) hF 83 dX0_takerOf_79 rfl ?_
      exact SK.sb (gX0_takerOf_J83 hF hr4 l0 l1 l3 l4 M z) ⟨rfl, ⟨rfl, ⟨rfl, trivial⟩⟩⟩
    · refine s_aload (pc := 65) hF dX0_takerOf_65 rfl ?_
      refine s_geti (pc := 67) hF (fl_X0_137 hF) dX0_takerOf_67 (fun v1 => ?_)
      refine s_aload_n (pc := 70) hF dX0_takerOf_70 rfl rfl ?_
      refine s_geti (pc := 71) hF (fl_X0_137 hF) dX0_takerOf_71 (fun v2 => ?_)
      refine s_icmp_ge (pc := 74) hF 82 dX0_takerOf_74 rfl ?_ ?_
      · refine s_aload_n (pc := 82) hF dX0_takerOf_82 rfl rfl ?_
        exact SK.sb (gX0_takerOf_J83 hF hr4 l0 l1 l3 l2 M z) ⟨rfl, ⟨rfl, ⟨rfl, trivial⟩⟩⟩
      · refine s_aload (pc := 77) hF dX0_takerOf_77 rfl ?_
        refine s_goto (pc := 79) hF 83 dX0_takerOf_79 rfl ?_
        exact SK.sb (gX0_takerOf_J83 hF hr4 l0 l1 l3 l4 M z) ⟨rfl, ⟨rfl, ⟨rfl, trivial⟩⟩⟩

def fX0_takerOf_L4 : Nat → Option Nat → Option Nat → Option Nat → Int32 → Mp → Nat → Rs (Option Nat)
  | 0, _, _, _, _, _, _ => none
  | fu + 1, l0, l1, l2, l3, M, z => (gr M l0 [0] 0).bind fun v1 =>
if ckc M v1 [11] = true then
  (cb (fJ2_size v1 M z) z fun v2 M3 z4 =>
if l3 < v2 then
  ((gr M3 l0 [0] 0).bind fun v5 =>
if ckc M3 v5 [11] = true then
  (cb (fJ2_get v5 l3 M3 z4) z4 fun v6 M7 z8 =>
if cst M7 v6 [2, 3] = true then
  ((gr M7 v6 [2, 3] 10).bind fun v9 =>
if v9 = none then
  (fX0_takerOf_J54 (fX0_takerOf_L4 fu) l0 l1 l2 l3 v6 (0 : Int32) M7 z8)
else
  (if ckc M7 v6 [2, 3] = true then
  (cb (fX2_takes v6 l1 M7 z8) z8 fun v10 M11 z12 =>
if v10 = 0 then
  (fX0_takerOf_J54 (fX0_takerOf_L4 fu) l0 l1 l2 l3 v6 (0 : Int32) M11 z12)
else
  (fX0_takerOf_J54 (fX0_takerOf_L4 fu) l0 l1 l2 l3 v6 (1 : Int32) M11 z12))
else none))
else none)
else none)
else
  (some (l2, M3, 0, 0)))
else none

theorem gX0_takerOf_L4 {G : Cx} {F : Option Value × Mp × Nat} (hF : FX G cX0_takerOf 6 RX0 (Option.some (Jvm.ClassFile.FieldType.object "StoryColumns$Block")) "takerOf" 5 113) : ∀ (fu : Nat) (l0 : Option Nat) (l1 : Option Nat) (l2 : Option Nat) (l3 : Int32) (M : Mp) (z : Nat), SK G F 6 eR 4 [some (va_rf l0), some (va_rf l1), some (va_rf l2), some (.int l3), none, none] [] M z (fX0_takerOf_L4 fu l0 l1 l2 l3 M z) := by
  intro fu
  induction fu with
  | zero => intros; exact SK.fail
  | succ fu ih =>
    intro l0 l1 l2 l3 M z
    rw [fX0_takerOf_L4]
    refine s_iload_n (pc := 4) hF dX0_takerOf_4 rfl rfl ?_
    refine s_aload_n (pc := 5) hF dX0_takerOf_5 rfl rfl ?_
    refine s_getr (pc := 6) hF (fl_X0_14 hF) dX0_takerOf_6 (fun v1 => ?_)
    refine s_callF (pc := 9) (As := []) (st := [.int l3]) (stf := fun r9 => .int r9 :: [.int l3]) (x := ⟨"java/util/List", "size", "()I"⟩) hF (mJ2_size v1) cw_J2_size rfl ⟨by decide, by decide⟩ q152 q158 n_q154 n_q153 n_q159 (List.forall_mem_cons.mpr ⟨⟨(RJ2, TJ2, 3), rfl, q156, n_q157, n_q155⟩, fun _ h9 => absurd h9 List.not_mem_nil⟩) rfl ⟨Nat.le_of_ble_eq_true rfl, Nat.le_of_ble_eq_true rfl⟩ ⟨⟨rfl, trivial⟩, Nat.le_of_ble_eq_true rfl⟩ dX0_takerOf_9 rfl (fun _ => rfl) (fun v2 M3 z4 => ?_)
    refine s_icmp_ge (pc := 14) hF 90 dX0_takerOf_14 rfl ?_ ?_
    · refine s_aload_n (pc := 90) hF dX0_takerOf_90 rfl rfl ?_
      exact s_aret (pc := 91) hF rfl (Or.inl ⟨_, rfl⟩) dX0_takerOf_91
    · refine s_aload_n (pc := 17) hF dX0_takerOf_17 rfl rfl ?_
      refine s_getr (pc := 18) hF (fl_X0_14 hF) dX0_takerOf_18 (fun v5 => ?_)
      refine s_iload_n (pc := 21) hF dX0_takerOf_21 rfl rfl ?_
      refine s_callF (pc := 22) (As := [.int l3]) (st := []) (stf := fun r9 => va_rf r9 :: []) (x := ⟨"java/util/List", "get", "(I)Ljava/lang/Object;"⟩) hF (mJ2_get v5 l3) cw_J2_get rfl ⟨by decide, by decide⟩ q523 q356 n_q353 n_q352 n_q357 (List.forall_mem_cons.mpr ⟨⟨(RJ2, TJ2, 3), rfl, q354, n_q355, n_q155⟩, fun _ h9 => absurd h9 List.not_mem_nil⟩) rfl ⟨Nat.le_of_ble_eq_true rfl, Nat.le_of_ble_eq_true rfl⟩ ⟨trivial, Nat.le_of_ble_eq_true rfl⟩ dX0_takerOf_22 rfl (fun _ => rfl) (fun v6 M7 z8 => ?_)
      refine s_cast (pc := 27) hF q252 (List.forall_mem_cons.mpr ⟨⟨(RX2, TX2, 13), rfl, Or.inl rfl⟩, List.forall_mem_cons.mpr ⟨⟨(RX3, TX3, 14), rfl, Or.inr n_q1359⟩, fun _ h9 => absurd h9 List.not_mem_nil⟩⟩) dX0_takerOf_27 ?_
      refine s_astore (L9 := [some (va_rf l0), some (va_rf l1), some (va_rf l2), some (.int l3), some (va_rf v6), none]) (pc := 30) hF dX0_takerOf_30 (Nat.le_of_ble_eq_true rfl) rfl ?_
      refine s_aload (pc := 32) hF dX0_takerOf_32 rfl ?_
      refine s_getr (pc := 34) hF (fl_X0_180 hF) dX0_takerOf_34 (fun v9 => ?_)
      refine s_ifnull (pc := 37) hF 53 dX0_takerOf_37 rfl ?_ ?_
      · refine s_iconst (pc := 53) hF dX0_takerOf_53 (0 : Int32) (by decide) ?_
        exact SK.sb (gX0_takerOf_J54 hF ih l0 l1 l2 l3 v6 (0 : Int32) M7 z8) ⟨rfl, ⟨rfl, ⟨rfl, ⟨rfl, ⟨rfl, trivial⟩⟩⟩⟩⟩
      · refine s_aload (pc := 40) hF dX0_takerOf_40 rfl ?_
        refine s_aload_n (pc := 42) hF dX0_takerOf_42 rfl rfl ?_
        refine s_callV (pc := 43) (As := [va_rf l1]) (st := []) (stf := fun r9 => .int r9 :: []) hF (mX2_takes v6 l1) cw_X2_takes q766 q767 (List.forall_mem_cons.mpr ⟨⟨(RX2, TX2, 13), rfl, q768⟩, List.forall_mem_cons.mpr ⟨⟨(RX3, TX3, 14), rfl, q770⟩, fun _ h9 => absurd h9 List.not_mem_nil⟩⟩) rfl ⟨Nat.le_of_ble_eq_true rfl, Nat.le_of_ble_eq_true rfl⟩ ⟨trivial, Nat.le_of_ble_eq_true rfl⟩ dX0_takerOf_43 rfl (fun _ => rfl) (fun v10 M11 z12 => ?_)
        refine s_if_eq (pc := 46) hF 53 dX0_takerOf_46 rfl ?_ ?_
        · refine s_iconst (pc := 53) hF dX0_takerOf_53 (0 : Int32) (by decide) ?_
          exact SK.sb (gX0_takerOf_J54 hF ih l0 l1 l2 l3 v6 (0 : Int32) M11 z12) ⟨rfl, ⟨rfl, ⟨rfl, ⟨rfl, ⟨rfl, trivial⟩⟩⟩⟩⟩
        · refine s_iconst (pc := 49) hF dX0_takerOf_49 (1 : Int32) (by decide) ?_
          refine s_goto (pc := 50) hF 54 dX0_takerOf_50 rfl ?_
          exact SK.sb (gX0_takerOf_J54 hF ih l0 l1 l2 l3 v6 (1 : Int32) M11 z12) ⟨rfl, ⟨rfl, ⟨rfl, ⟨rfl, ⟨rfl, trivial⟩⟩⟩⟩⟩
def fX0_takerOf (a0 : Option Nat) (a1 : Option Nat) (M : Mp) (z : Nat) : Rs (Option Nat) := fX0_takerOf_L4 FU a0 a1 none (0 : Int32) M z
theorem gX0_takerOf {G : Cx} {F : Option Value × Mp × Nat} (hF : FX G cX0_takerOf 6 RX0 (Option.some (Jvm.ClassFile.FieldType.object "StoryColumns$Block")) "takerOf" 5 113) (a0 : Option Nat) (a1 : Option Nat) (M : Mp) (z : Nat) : SK G F 6 eR 0 [some (va_rf a0), some (va_rf a1), none, none, none, none] [] M z (fX0_takerOf a0 a1 M z) := by
  unfold fX0_takerOf
  refine s_null (pc := 0) hF dX0_takerOf_0 ?_
  refine s_astore_n (L9 := [some (va_rf a0), some (va_rf a1), some (va_rf none), none, none, none]) (pc := 1) hF dX0_takerOf_1 rfl (Nat.le_of_ble_eq_true rfl) rfl ?_
  refine s_iconst (pc := 2) hF dX0_takerOf_2 (0 : Int32) (by decide) ?_
  refine s_istore_n (L9 := [some (va_rf a0), some (va_rf a1), some (va_rf none), some (.int (0 : Int32)), none, none]) (pc := 3) hF dX0_takerOf_3 rfl (Nat.le_of_ble_eq_true rfl) rfl ?_
  exact SK.sb (gX0_takerOf_L4 hF FU a0 a1 none (0 : Int32) M z) ⟨rfl, ⟨rfl, ⟨rfl, ⟨rfl, trivial⟩⟩⟩⟩
theorem mX0_takerOf (a0 : Option Nat) (a1 : Option Nat) : MT yX0_takerOf cX0_takerOf 6 (Option.some (Jvm.ClassFile.FieldType.object "StoryColumns$Block")) 5 113 eR [va_rf a0, va_rf a1] (fX0_takerOf a0 a1) :=
  MT.of (L0 := [some (va_rf a0), some (va_rf a1), none, none, none, none]) (by decide) ⟨ct _, ⟨ct _, trivial⟩⟩ (Nat.le_of_ble_eq_true rfl) rfl (fun _ _ hF M z => gX0_takerOf hF a0 a1 M z)

theorem fl_X5_75 {G : Cx} {nL fr lc : Nat} {cc : ByteArray} {ret : Option FieldType} {nm : String} (hF : FX G cc nL RX5 ret nm fr lc) : ∀ c ∈ [5], GF G RX5 75 c 3 := by
  obtain ⟨⟨p, l, e, R, s, m, args, below, meth, c0⟩, A, D, dA, mi⟩ := G
  obtain ⟨hx, hb, hml, hown, hts, hr, hlk, hK, hnm, hfr, hlc⟩ := hF
  exact List.forall_mem_cons.mpr ⟨⟨RX5, TX5, 8, "StoryColumns$Story", rfl, in_X5, Nat.le_of_ble_eq_true rfl, Or.inl (hts _ q702), fun _ h => h⟩, fun _ h9 => absurd h9 List.not_mem_nil⟩
theorem pl_X5_75 {G : Cx} {nL fr lc : Nat} {cc : ByteArray} {ret : Option FieldType} {nm : String} (hF : FX G cc nL RX5 ret nm fr lc) (x9 : Int32) : ∀ c ∈ [5], PF G RX5 nm 75 c 3 (.int x9) := by
  obtain ⟨⟨p, l, e, R, s, m, args, below, meth, c0⟩, A, D, dA, mi⟩ := G
  obtain ⟨hx, hb, hml, hown, hts, hr, hlk, hK, hnm, hfr, hlc⟩ := hF
  exact List.forall_mem_cons.mpr ⟨⟨RX5, TX5, 8, "StoryColumns$Story", tyX5 3, rfl, in_X5, Nat.le_of_ble_eq_true rfl, Or.inl ⟨(hts _ q702), Or.inl rfl⟩, fun _ h => h, tyX5_ok 3 (Nat.le_of_ble_eq_true rfl), rfl, rfl, ap_5 hts hK⟩, fun _ h9 => absurd h9 List.not_mem_nil⟩
theorem pl_X5_78 {G : Cx} {nL fr lc : Nat} {cc : ByteArray} {ret : Option FieldType} {nm : String} (hF : FX G cc nL RX5 ret nm fr lc) (x9 : Option Nat) : ∀ c ∈ [2, 3], PF G RX5 nm 78 c 11 (va_rf x9) := by
  obtain ⟨⟨p, l, e, R, s, m, args, below, meth, c0⟩, A, D, dA, mi⟩ := G
  obtain ⟨hx, hb, hml, hown, hts, hr, hlk, hK, hnm, hfr, hlc⟩ := hF
  exact List.forall_mem_cons.mpr ⟨⟨RX2, TX2, 13, "StoryColumns$Block", tyX2 11, rfl, in_X2, Nat.le_of_ble_eq_true rfl, Or.inl ⟨(hts _ q219), Or.inl rfl⟩, fun _ h => h, tyX2_ok 11 (Nat.le_of_ble_eq_true rfl), by cases x9 <;> rfl, by cases x9 <;> rfl, ap_2 hts hK⟩, List.forall_mem_cons.mpr ⟨⟨RX3, TX3, 14, "StoryColumns$Block", tyX3 11, rfl, in_X3, Nat.le_of_ble_eq_true rfl, Or.inl ⟨(hts _ q219), Or.inl rfl⟩, fun _ h => h, tyX3_ok 11 (Nat.le_of_ble_eq_true rfl), by cases x9 <;> rfl, by cases x9 <;> rfl, ap_3 hts hK⟩, fun _ h9 => absurd h9 List.not_mem_nil⟩⟩
def fX5_joins (a0 : Option Nat) (a1 : Option Nat) (a2 : Option Nat) (M : Mp) (z : Nat) : Rs Unit := (gr M a0 [5] 1).bind fun v1 =>
if ckc M v1 [11] = true then
  (cb (fJ2_add v1 a1 M z) z fun v2 M3 z4 =>
(gi M3 a0 [5] 3).bind fun v5 =>
(pu M3 a0 [5] 3 (.int (v5 + (1 : Int32)))).bind fun M6 =>
(pu M6 a1 [2, 3] 10 (va_rf a0)).bind fun M7 =>
(pu M7 a1 [2, 3] 11 (va_rf a2)).bind fun M8 =>
some ((), M8, 0, 0))
else none
theorem gX5_joins {G : Cx} {F : Option Value × Mp × Nat} (hF : FX G cX5_joins 3 RX5 (Option.none : Option Jvm.ClassFile.FieldType) "joins" 11 308) (a0 : Option Nat) (a1 : Option Nat) (a2 : Option Nat) (M : Mp) (z : Nat) : SK G F 3 eV 0 [some (va_rf a0), some (va_rf a1), some (va_rf a2)] [] M z (fX5_joins a0 a1 a2 M z) := by
  unfold fX5_joins
  refine s_aload_n (pc := 0) hF dX5_joins_0 rfl rfl ?_
  refine s_getr (pc := 1) hF (fl_X5_20 hF) dX5_joins_1 (fun v1 => ?_)
  refine s_aload_n (pc := 4) hF dX5_joins_4 rfl rfl ?_
  refine s_callF (pc := 5) (As := [va_rf a1]) (st := []) (stf := fun r9 => .int r9 :: []) (x := ⟨"java/util/List", "add", "(Ljava/lang/Object;)Z"⟩) hF (mJ2_add v1 a1) cw_J2_add rfl ⟨by decide, by decide⟩ q781 q451 n_q448 n_q447 n_q452 (List.forall_mem_cons.mpr ⟨⟨(RJ2, TJ2, 3), rfl, q449, n_q450, n_q155⟩, fun _ h9 => absurd h9 List.not_mem_nil⟩) rfl ⟨Nat.le_of_ble_eq_true rfl, Nat.le_of_ble_eq_true rfl⟩ ⟨trivial, Nat.le_of_ble_eq_true rfl⟩ dX5_joins_5 rfl (fun _ => rfl) (fun v2 M3 z4 => ?_)
  refine s_pop (pc := 10) hF dX5_joins_10 rfl ?_
  refine s_aload_n (pc := 11) hF dX5_joins_11 rfl rfl ?_
  refine s_dup (pc := 12) hF dX5_joins_12 (ct _) ?_
  refine s_geti (pc := 13) hF (fl_X5_75 hF) dX5_joins_13 (fun v5 => ?_)
  refine s_iconst (pc := 16) hF dX5_joins_16 (1 : Int32) (by decide) ?_
  refine s_iadd (pc := 17) hF dX5_joins_17 ?_
  refine s_put (pc := 18) hF (pl_X5_75 hF _) dX5_joins_18 (fun M6 => ?_)
  refine s_aload_n (pc := 21) hF dX5_joins_21 rfl rfl ?_
  refine s_aload_n (pc := 22) hF dX5_joins_22 rfl rfl ?_
  refine s_put (pc := 23) hF (pl_X5_62 hF _) dX5_joins_23 (fun M7 => ?_)
  refine s_aload_n (pc := 26) hF dX5_joins_26 rfl rfl ?_
  refine s_aload_n (pc := 27) hF dX5_joins_27 rfl rfl ?_
  refine s_put (pc := 28) hF (pl_X5_78 hF _) dX5_joins_28 (fun M8 => ?_)
  exact s_vret (pc := 31) hF dX5_joins_31
theorem mX5_joins (a0 : Option Nat) (a1 : Option Nat) (a2 : Option Nat) : MT yX5_joins cX5_joins 3 (Option.none : Option Jvm.ClassFile.FieldType) 11 308 eV [va_rf a0, va_rf a1, va_rf a2] (fX5_joins a0 a1 a2) :=
  MT.of (L0 := [some (va_rf a0), some (va_rf a1), some (va_rf a2)]) (by decide) ⟨ct _, ⟨ct _, ⟨ct _, trivial⟩⟩⟩ (Nat.le_of_ble_eq_true rfl) rfl (fun _ _ hF M z => gX5_joins hF a0 a1 a2 M z)

theorem cw_X5_joins : CWm yX5_joins cX5_joins 3 (Option.none : Option Jvm.ClassFile.FieldType) 2 := ⟨q779, q74, by decide +kernel, by decide +kernel, by decide +kernel⟩
theorem cw_X0_takerOf : CWm yX0_takerOf cX0_takerOf 6 (Option.some (Jvm.ClassFile.FieldType.object "StoryColumns$Block")) 1 := ⟨q765, q59, by decide +kernel, by decide +kernel, by decide +kernel⟩
def fX0_joinsOne_J52 (r2 : Option Nat → Int32 → Mp → Nat → Rs Int32) (l0 : Option Nat) (l1 : Int32) (l2 : Option Nat) (s0 : Option Nat) (M : Mp) (z : Nat) : Rs Int32 := if s0 = none then
  (r2 l0 (l1 + 1) M z)
else
  ((gr M s0 [2, 3] 10).bind fun v1 =>
if ckc M v1 [5] = true then
  (cb (fX5_joins v1 l2 s0 M z) z fun _ M3 z4 =>
some ((1 : Int32), M3, 0, 0))
else none)

theorem gX0_joinsOne_J52 {G : Cx} {F : Option Value × Mp × Nat}  {r2 : Option Nat → Int32 → Mp → Nat → Rs Int32}(hF : FX G cX0_joinsOne 4 RX0 (Option.some Jvm.ClassFile.FieldType.boolean) "joinsOne" 12 330) (hr2 : ∀ l0 l1 M z, SK G F 4 eI 2 [some (va_rf l0), some (.int l1), none, none] [] M z (r2 l0 l1 M z)) (l0 : Option Nat) (l1 : Int32) (l2 : Option Nat) (s0 : Option Nat) (M : Mp) (z : Nat) : SK G F 4 eI 52 [some (va_rf l0), some (.int l1), some (va_rf l2), none] [va_rf s0] M z (fX0_joinsOne_J52 r2 l0 l1 l2 s0 M z) := by
  unfold fX0_joinsOne_J52
  refine s_astore_n (L9 := [some (va_rf l0), some (.int l1), some (va_rf l2), some (va_rf s0)]) (pc := 52) hF dX0_joinsOne_52 rfl (Nat.le_of_ble_eq_true rfl) rfl ?_
  refine s_aload_n (pc := 53) hF dX0_joinsOne_53 rfl rfl ?_
  refine s_ifnull (pc := 54) hF 68 dX0_joinsOne_54 rfl ?_ ?_
  · refine s_iinc (v := l1 + 1) (L9 := [some (va_rf l0), some (.int (l1 + 1)), some (va_rf l2), some (va_rf s0)]) (pc := 68) hF dX0_joinsOne_68 rfl rfl (Nat.le_of_ble_eq_true rfl) rfl ?_
    refine s_goto (pc := 71) hF 2 dX0_joinsOne_71 rfl ?_
    exact SK.sb (hr2 l0 (l1 + 1) M z) ⟨rfl, ⟨rfl, trivial⟩⟩
  · refine s_aload_n (pc := 57) hF dX0_joinsOne_57 rfl rfl ?_
    refine s_getr (pc := 58) hF (fl_X0_180 hF) dX0_joinsOne_58 (fun v1 => ?_)
    refine s_aload_n (pc := 61) hF dX0_joinsOne_61 rfl rfl ?_
    refine s_aload_n (pc := 62) hF dX0_joinsOne_62 rfl rfl ?_
    refine s_callV (pc := 63) (As := [va_rf l2, va_rf s0]) (st := []) (stf := fun r9 => []) hF (mX5_joins v1 l2 s0) cw_X5_joins q776 q777 (List.forall_mem_cons.mpr ⟨⟨(RX5, TX5, 8), rfl, q778⟩, fun _ h9 => absurd h9 List.not_mem_nil⟩) rfl ⟨Nat.le_of_ble_eq_true rfl, Nat.le_of_ble_eq_true rfl⟩ ⟨trivial, Nat.le_of_ble_eq_true rfl⟩ dX0_joinsOne_63 rfl (fun _ => rfl) (fun v2 M3 z4 => ?_)
    refine s_iconst (pc := 66) hF dX0_joinsOne_66 (1 : Int32) (by decide) ?_
    exact s_zretL (pc := 67) hF dX0_joinsOne_67 (by decide)

def fX0_joinsOne_L2 : Nat → Option Nat → Int32 → Mp → Nat → Rs Int32
  | 0, _, _, _, _ => none
  | fu + 1, l0, l1, M, z => (gr M l0 [0] 0).bind fun v1 =>
if ckc M v1 [11] = true then
  (cb (fJ2_size v1 M z) z fun v2 M3 z4 =>
if l1 < v2 then
  ((gr M3 l0 [0] 0).bind fun v5 =>
if ckc M3 v5 [11] = true then
  (cb (fJ2_get v5 l1 M3 z4) z4 fun v6 M7 z8 =>
if cst M7 v6 [2, 3] = true then
  (if ckc M7 v6 [2, 3] = true then
  (cb (fX2_isText v6 M7 z8) z8 fun v9 M10 z11 =>
if v9 = 0 then
  (fX0_joinsOne_J52 (fX0_joinsOne_L2 fu) l0 l1 v6 none M10 z11)
else
  ((gr M10 v6 [2, 3] 10).bind fun v12 =>
if v12 = none then
  (if ckc M10 l0 [0] = true then
  (cb (fX0_takerOf l0 v6 M10 z11) z11 fun v13 M14 z15 =>
fX0_joinsOne_J52 (fX0_joinsOne_L2 fu) l0 l1 v6 v13 M14 z15)
else none)
else
  (fX0_joinsOne_J52 (fX0_joinsOne_L2 fu) l0 l1 v6 none M10 z11)))
else none)
else none)
else none)
else
  (some ((0 : Int32), M3, 0, 0)))
else none

theorem gX0_joinsOne_L2 {G : Cx} {F : Option Value × Mp × Nat} (hF : FX G cX0_joinsOne 4 RX0 (Option.some Jvm.ClassFile.FieldType.boolean) "joinsOne" 12 330) : ∀ (fu : Nat) (l0 : Option Nat) (l1 : Int32) (M : Mp) (z : Nat), SK G F 4 eI 2 [some (va_rf l0), some (.int l1), none, none] [] M z (fX0_joinsOne_L2 fu l0 l1 M z) := by
  intro fu
  induction fu with
  | zero => intros; exact SK.fail
  | succ fu ih =>
    intro l0 l1 M z
    rw [fX0_joinsOne_L2]
    refine s_iload_n (pc := 2) hF dX0_joinsOne_2 rfl rfl ?_
    refine s_aload_n (pc := 3) hF dX0_joinsOne_3 rfl rfl ?_
    refine s_getr (pc := 4) hF (fl_X0_14 hF) dX0_joinsOne_4 (fun v1 => ?_)
    refine s_callF (pc := 7) (As := []) (st := [.int l1]) (stf := fun r9 => .int r9 :: [.int l1]) (x := ⟨"java/util/List", "size", "()I"⟩) hF (mJ2_size v1) cw_J2_size rfl ⟨by decide, by decide⟩ q152 q158 n_q154 n_q153 n_q159 (List.forall_mem_cons.mpr ⟨⟨(RJ2, TJ2, 3), rfl, q156, n_q157, n_q155⟩, fun _ h9 => absurd h9 List.not_mem_nil⟩) rfl ⟨Nat.le_of_ble_eq_true rfl, Nat.le_of_ble_eq_true rfl⟩ ⟨⟨rfl, trivial⟩, Nat.le_of_ble_eq_true rfl⟩ dX0_joinsOne_7 rfl (fun _ => rfl) (fun v2 M3 z4 => ?_)
    refine s_icmp_ge (pc := 12) hF 74 dX0_joinsOne_12 rfl ?_ ?_
    · refine s_iconst (pc := 74) hF dX0_joinsOne_74 (0 : Int32) (by decide) ?_
      exact s_zretL (pc := 75) hF dX0_joinsOne_75 (by decide)
    · refine s_aload_n (pc := 15) hF dX0_joinsOne_15 rfl rfl ?_
      refine s_getr (pc := 16) hF (fl_X0_14 hF) dX0_joinsOne_16 (fun v5 => ?_)
      refine s_iload_n (pc := 19) hF dX0_joinsOne_19 rfl rfl ?_
      refine s_callF (pc := 20) (As := [.int l1]) (st := []) (stf := fun r9 => va_rf r9 :: []) (x := ⟨"java/util/List", "get", "(I)Ljava/lang/Object;"⟩) hF (mJ2_get v5 l1) cw_J2_get rfl ⟨by decide, by decide⟩ q523 q356 n_q353 n_q352 n_q357 (List.forall_mem_cons.mpr ⟨⟨(RJ2, TJ2, 3), rfl, q354, n_q355, n_q155⟩, fun _ h9 => absurd h9 List.not_mem_nil⟩) rfl ⟨Nat.le_of_ble_eq_true rfl, Nat.le_of_ble_eq_true rfl⟩ ⟨trivial, Nat.le_of_ble_eq_true rfl⟩ dX0_joinsOne_20 rfl (fun _ => rfl) (fun v6 M7 z8 => ?_)
      refine s_cast (pc := 25) hF q252 (List.forall_mem_cons.mpr ⟨⟨(RX2, TX2, 13), rfl, Or.inl rfl⟩, List.forall_mem_cons.mpr ⟨⟨(RX3, TX3, 14), rfl, Or.inr n_q1359⟩, fun _ h9 => absurd h9 List.not_mem_nil⟩⟩) dX0_joinsOne_25 ?_
      refine s_astore_n (L9 := [some (va_rf l0), some (.int l1), some (va_rf v6), none]) (pc := 28) hF dX0_joinsOne_28 rfl (Nat.le_of_ble_eq_true rfl) rfl ?_
      refine s_aload_n (pc := 29) hF dX0_joinsOne_29 rfl rfl ?_
      refine s_callV (pc := 30) (As := []) (st := []) (stf := fun r9 => .int r9 :: []) hF (mX2_isText v6) cw_X2_isText q524 q525 (List.forall_mem_cons.mpr ⟨⟨(RX2, TX2, 13), rfl, q526⟩, List.forall_mem_cons.mpr ⟨⟨(RX3, TX3, 14), rfl, q528⟩, fun _ h9 => absurd h9 List.not_mem_nil⟩⟩) rfl ⟨Nat.le_of_ble_eq_true rfl, Nat.le_of_ble_eq_true rfl⟩ ⟨trivial, Nat.le_of_ble_eq_true rfl⟩ dX0_joinsOne_30 rfl (fun _ => rfl) (fun v9 M10 z11 => ?_)
      refine s_if_eq (pc := 33) hF 51 dX0_joinsOne_33 rfl ?_ ?_
      · refine s_null (pc := 51) hF dX0_joinsOne_51 ?_
        exact SK.sb (gX0_joinsOne_J52 hF ih l0 l1 v6 none M10 z11) ⟨rfl, ⟨rfl, ⟨rfl, trivial⟩⟩⟩
      · refine s_aload_n (pc := 36) hF dX0_joinsOne_36 rfl rfl ?_
        refine s_getr (pc := 37) hF (fl_X0_180 hF) dX0_joinsOne_37 (fun v12 => ?_)
        refine s_ifnonnull (pc := 40) hF 51 dX0_joinsOne_40 rfl ?_ ?_
        · refine s_null (pc := 51) hF dX0_joinsOne_51 ?_
          exact SK.sb (gX0_joinsOne_J52 hF ih l0 l1 v6 none M10 z11) ⟨rfl, ⟨rfl, ⟨rfl, trivial⟩⟩⟩
        · refine s_aload_n (pc := 43) hF dX0_joinsOne_43 rfl rfl ?_
          refine s_aload_n (pc := 44) hF dX0_joinsOne_44 rfl rfl ?_
          refine s_callV (pc := 45) (As := [va_rf v6]) (st := []) (stf := fun r9 => va_rf r9 :: []) hF (mX0_takerOf l0 v6) cw_X0_takerOf q762 q764 (List.forall_mem_cons.mpr ⟨⟨(RX0, TX0, 6), rfl, qs13⟩, fun _ h9 => absurd h9 List.not_mem_nil⟩) rfl ⟨Nat.le_of_ble_eq_true rfl, Nat.le_of_ble_eq_true rfl⟩ ⟨trivial, Nat.le_of_ble_eq_true rfl⟩ dX0_joinsOne_45 rfl (fun _ => rfl) (fun v13 M14 z15 => ?_)
          refine s_goto (pc := 48) hF 52 dX0_joinsOne_48 rfl ?_
          exact SK.sb (gX0_joinsOne_J52 hF ih l0 l1 v6 v13 M14 z15) ⟨rfl, ⟨rfl, ⟨rfl, trivial⟩⟩⟩
def fX0_joinsOne (a0 : Option Nat) (M : Mp) (z : Nat) : Rs Int32 := fX0_joinsOne_L2 FU a0 (0 : Int32) M z
theorem gX0_joinsOne {G : Cx} {F : Option Value × Mp × Nat} (hF : FX G cX0_joinsOne 4 RX0 (Option.some Jvm.ClassFile.FieldType.boolean) "joinsOne" 12 330) (a0 : Option Nat) (M : Mp) (z : Nat) : SK G F 4 eI 0 [some (va_rf a0), none, none, none] [] M z (fX0_joinsOne a0 M z) := by
  unfold fX0_joinsOne
  refine s_iconst (pc := 0) hF dX0_joinsOne_0 (0 : Int32) (by decide) ?_
  refine s_istore_n (L9 := [some (va_rf a0), some (.int (0 : Int32)), none, none]) (pc := 1) hF dX0_joinsOne_1 rfl (Nat.le_of_ble_eq_true rfl) rfl ?_
  exact SK.sb (gX0_joinsOne_L2 hF FU a0 (0 : Int32) M z) ⟨rfl, ⟨rfl, trivial⟩⟩
theorem mX0_joinsOne (a0 : Option Nat) : MT yX0_joinsOne cX0_joinsOne 4 (Option.some Jvm.ClassFile.FieldType.boolean) 12 330 eI [va_rf a0] (fX0_joinsOne a0) :=
  MT.of (L0 := [some (va_rf a0), none, none, none]) (by decide) ⟨ct _, trivial⟩ (Nat.le_of_ble_eq_true rfl) rfl (fun _ _ hF M z => gX0_joinsOne hF a0 M z)

theorem fl_X5_24 {G : Cx} {nL fr lc : Nat} {cc : ByteArray} {ret : Option FieldType} {nm : String} (hF : FX G cc nL RX5 ret nm fr lc) : ∀ c ∈ [5], GF G RX5 24 c 0 := by
  obtain ⟨⟨p, l, e, R, s, m, args, below, meth, c0⟩, A, D, dA, mi⟩ := G
  obtain ⟨hx, hb, hml, hown, hts, hr, hlk, hK, hnm, hfr, hlc⟩ := hF
  exact List.forall_mem_cons.mpr ⟨⟨RX5, TX5, 8, "StoryColumns$Story", rfl, in_X5, Nat.le_of_ble_eq_true rfl, Or.inl (hts _ q693), fun _ h => h⟩, fun _ h9 => absurd h9 List.not_mem_nil⟩
theorem fl_X5_40 {G : Cx} {nL fr lc : Nat} {cc : ByteArray} {ret : Option FieldType} {nm : String} (hF : FX G cc nL RX5 ret nm fr lc) : ∀ c ∈ [3], GF G RX5 40 c 0 := by
  obtain ⟨⟨p, l, e, R, s, m, args, below, meth, c0⟩, A, D, dA, mi⟩ := G
  obtain ⟨hx, hb, hml, hown, hts, hr, hlk, hK, hnm, hfr, hlc⟩ := hF
  exact List.forall_mem_cons.mpr ⟨⟨RX3, TX3, 14, "StoryColumns$Head", rfl, in_X3, Nat.le_of_ble_eq_true rfl, Or.inl (hts _ q175), u_same (hts _ q176)⟩, fun _ h9 => absurd h9 List.not_mem_nil⟩
theorem fl_X5_36 {G : Cx} {nL fr lc : Nat} {cc : ByteArray} {ret : Option FieldType} {nm : String} (hF : FX G cc nL RX5 ret nm fr lc) : ∀ c ∈ [2, 3], GF G RX5 36 c 0 := by
  obtain ⟨⟨p, l, e, R, s, m, args, below, meth, c0⟩, A, D, dA, mi⟩ := G
  obtain ⟨hx, hb, hml, hown, hts, hr, hlk, hK, hnm, hfr, hlc⟩ := hF
  exact List.forall_mem_cons.mpr ⟨⟨RX2, TX2, 13, "StoryColumns$Block", rfl, in_X2, Nat.le_of_ble_eq_true rfl, Or.inl (hts _ q174), fun _ h => h⟩, List.forall_mem_cons.mpr ⟨⟨RX3, TX3, 14, "StoryColumns$Block", rfl, in_X3, Nat.le_of_ble_eq_true rfl, Or.inl (hts _ q174), fun _ h => h⟩, fun _ h9 => absurd h9 List.not_mem_nil⟩⟩
def fX5_first (a0 : Option Nat) (M : Mp) (z : Nat) : Rs Int32 := (gr M a0 [5] 0).bind fun v1 =>
if v1 = none then
  ((gr M a0 [5] 1).bind fun v4 =>
if ckc M v4 [11] = true then
  (cb (fJ2_get v4 (0 : Int32) M z) z fun v5 M6 z7 =>
if cst M6 v5 [2, 3] = true then
  ((gi M6 v5 [2, 3] 0).bind fun v8 =>
some (v8, M6, 0, 0))
else none)
else none)
else
  ((gr M a0 [5] 0).bind fun v2 =>
(gi M v2 [3] 0).bind fun v3 =>
some (v3, M, 0, 0))
theorem gX5_first {G : Cx} {F : Option Value × Mp × Nat} (hF : FX G cX5_first 1 RX5 (Option.some Jvm.ClassFile.FieldType.int) "first" 3 64) (a0 : Option Nat) (M : Mp) (z : Nat) : SK G F 1 eI 0 [some (va_rf a0)] [] M z (fX5_first a0 M z) := by
  unfold fX5_first
  refine s_aload_n (pc := 0) hF dX5_first_0 rfl rfl ?_
  refine s_getr (pc := 1) hF (fl_X5_24 hF) dX5_first_1 (fun v1 => ?_)
  refine s_ifnonnull (pc := 4) hF 26 dX5_first_4 rfl ?_ ?_
  · refine s_aload_n (pc := 26) hF dX5_first_26 rfl rfl ?_
    refine s_getr (pc := 27) hF (fl_X5_24 hF) dX5_first_27 (fun v2 => ?_)
    refine s_geti (pc := 30) hF (fl_X5_40 hF) dX5_first_30 (fun v3 => ?_)
    exact s_iret (pc := 33) hF dX5_first_33
  · refine s_aload_n (pc := 7) hF dX5_first_7 rfl rfl ?_
    refine s_getr (pc := 8) hF (fl_X5_20 hF) dX5_first_8 (fun v4 => ?_)
    refine s_iconst (pc := 11) hF dX5_first_11 (0 : Int32) (by decide) ?_
    refine s_callF (pc := 12) (As := [.int (0 : Int32)]) (st := []) (stf := fun r9 => va_rf r9 :: []) (x := ⟨"java/util/List", "get", "(I)Ljava/lang/Object;"⟩) hF (mJ2_get v4 (0 : Int32)) cw_J2_get rfl ⟨by decide, by decide⟩ q739 q356 n_q353 n_q352 n_q357 (List.forall_mem_cons.mpr ⟨⟨(RJ2, TJ2, 3), rfl, q354, n_q355, n_q155⟩, fun _ h9 => absurd h9 List.not_mem_nil⟩) rfl ⟨Nat.le_of_ble_eq_true rfl, Nat.le_of_ble_eq_true rfl⟩ ⟨trivial, Nat.le_of_ble_eq_true rfl⟩ dX5_first_12 rfl (fun _ => rfl) (fun v5 M6 z7 => ?_)
    refine s_cast (pc := 17) hF q740 (List.forall_mem_cons.mpr ⟨⟨(RX2, TX2, 13), rfl, Or.inl rfl⟩, List.forall_mem_cons.mpr ⟨⟨(RX3, TX3, 14), rfl, Or.inr n_q1359⟩, fun _ h9 => absurd h9 List.not_mem_nil⟩⟩) dX5_first_17 ?_
    refine s_geti (pc := 20) hF (fl_X5_36 hF) dX5_first_20 (fun v8 => ?_)
    refine s_goto (pc := 23) hF 33 dX5_first_23 rfl ?_
    exact s_iret (pc := 33) hF dX5_first_33
theorem mX5_first (a0 : Option Nat) : MT yX5_first cX5_first 1 (Option.some Jvm.ClassFile.FieldType.int) 3 64 eI [va_rf a0] (fX5_first a0) :=
  MT.of (L0 := [some (va_rf a0)]) (by decide) ⟨ct _, trivial⟩ (Nat.le_of_ble_eq_true rfl) rfl (fun _ _ hF M z => gX5_first hF a0 M z)

theorem cw_X5_first : CWm yX5_first cX5_first 1 (Option.some Jvm.ClassFile.FieldType.int) 0 := ⟨q804, q74, by decide +kernel, by decide +kernel, by decide +kernel⟩
def fX12_number (a0 : Option Nat) (M : Mp) (z : Nat) : Rs Int32 := if ckc M a0 [5] = true then
  (cb (fX5_first a0 M z) z fun v1 M2 z3 =>
some (v1, M2, 0, 0))
else none
theorem gX12_number {G : Cx} {F : Option Value × Mp × Nat} (hF : FX G cX12_number 1 RX12 (Option.some Jvm.ClassFile.FieldType.int) "number" 4 84) (a0 : Option Nat) (M : Mp) (z : Nat) : SK G F 1 eI 0 [some (va_rf a0)] [] M z (fX12_number a0 M z) := by
  unfold fX12_number
  refine s_aload_n (pc := 0) hF dX12_number_0 rfl rfl ?_
  refine s_callF (pc := 1) (As := []) (st := []) (stf := fun r9 => .int r9 :: []) (x := ⟨"StoryColumns$Numbered", "first", "()I"⟩) hF (mX5_first a0) cw_X5_first rfl ⟨by decide, by decide⟩ q796 q802 n_q798 n_q797 n_q803 (List.forall_mem_cons.mpr ⟨⟨(RX5, TX5, 8), rfl, q800, n_q801, n_q799⟩, fun _ h9 => absurd h9 List.not_mem_nil⟩) rfl ⟨Nat.le_of_ble_eq_true rfl, Nat.le_of_ble_eq_true rfl⟩ ⟨trivial, Nat.le_of_ble_eq_true rfl⟩ dX12_number_1 rfl (fun _ => rfl) (fun v1 M2 z3 => ?_)
  exact s_iret (pc := 6) hF dX12_number_6
theorem mX12_number (a0 : Option Nat) : MTd yX12_number cX12_number 1 (Option.some Jvm.ClassFile.FieldType.int) 4 84 eI [va_rf a0] (fX12_number a0) :=
  MTd.of (L0 := [some (va_rf a0)]) (by decide) ⟨ct _, trivial⟩ (Nat.le_of_ble_eq_true rfl) rfl (fun _ _ hF M z => gX12_number hF a0 M z)

theorem fl_X5_43 {G : Cx} {nL fr lc : Nat} {cc : ByteArray} {ret : Option FieldType} {nm : String} (hF : FX G cc nL RX5 ret nm fr lc) : ∀ c ∈ [5], GF G RX5 43 c 2 := by
  obtain ⟨⟨p, l, e, R, s, m, args, below, meth, c0⟩, A, D, dA, mi⟩ := G
  obtain ⟨hx, hb, hml, hown, hts, hr, hlk, hK, hnm, hfr, hlc⟩ := hF
  exact List.forall_mem_cons.mpr ⟨⟨RX5, TX5, 8, "StoryColumns$Story", rfl, in_X5, Nat.le_of_ble_eq_true rfl, Or.inl (hts _ q700), fun _ h => h⟩, fun _ h9 => absurd h9 List.not_mem_nil⟩
def fX5_number (a0 : Option Nat) (M : Mp) (z : Nat) : Rs Int32 := (gi M a0 [5] 2).bind fun v1 =>
if v1 < 0 then
  (if ckc M a0 [5] = true then
  (cb (fX12_number a0 M z) z fun v3 M4 z5 =>
some (v3, M4, 0, 0))
else none)
else
  ((gi M a0 [5] 2).bind fun v2 =>
some (v2, M, 0, 0))
theorem gX5_number {G : Cx} {F : Option Value × Mp × Nat} (hF : FX G cX5_number 1 RX5 (Option.some Jvm.ClassFile.FieldType.int) "number" 5 104) (a0 : Option Nat) (M : Mp) (z : Nat) : SK G F 1 eI 0 [some (va_rf a0)] [] M z (fX5_number a0 M z) := by
  unfold fX5_number
  refine s_aload_n (pc := 0) hF dX5_number_0 rfl rfl ?_
  refine s_geti (pc := 1) hF (fl_X5_43 hF) dX5_number_1 (fun v1 => ?_)
  refine s_if_ge (pc := 4) hF 14 dX5_number_4 rfl ?_ ?_
  · refine s_aload_n (pc := 14) hF dX5_number_14 rfl rfl ?_
    refine s_geti (pc := 15) hF (fl_X5_43 hF) dX5_number_15 (fun v2 => ?_)
    exact s_iret (pc := 18) hF dX5_number_18
  · refine s_aload_n (pc := 7) hF dX5_number_7 rfl rfl ?_
    refine s_callE (pc := 8) (As := []) (st := []) (stf := fun r9 => .int r9 :: []) hF (mX12_number a0) q794 q793 q726 q790 n_q791 (by show _ = some 0; decide +kernel) ⟨Nat.le_of_ble_eq_true rfl, Nat.le_of_ble_eq_true rfl⟩ ⟨trivial, Nat.le_of_ble_eq_true rfl⟩ dX5_number_8 rfl (fun _ => rfl) (fun v3 M4 z5 => ?_)
    refine s_goto (pc := 11) hF 18 dX5_number_11 rfl ?_
    exact s_iret (pc := 18) hF dX5_number_18
theorem mX5_number (a0 : Option Nat) : MT yX5_number cX5_number 1 (Option.some Jvm.ClassFile.FieldType.int) 5 104 eI [va_rf a0] (fX5_number a0) :=
  MT.of (L0 := [some (va_rf a0)]) (by decide) ⟨ct _, trivial⟩ (Nat.le_of_ble_eq_true rfl) rfl (fun _ _ hF M z => gX5_number hF a0 M z)

theorem fl_X0_21 {G : Cx} {nL fr lc : Nat} {cc : ByteArray} {ret : Option FieldType} {nm : String} (hF : FX G cc nL RX0 ret nm fr lc) : ∀ c ∈ [0], GF G RX0 21 c 3 := by
  obtain ⟨⟨p, l, e, R, s, m, args, below, meth, c0⟩, A, D, dA, mi⟩ := G
  obtain ⟨hx, hb, hml, hown, hts, hr, hlk, hK, hnm, hfr, hlc⟩ := hF
  exact List.forall_mem_cons.mpr ⟨⟨RX0, TX0, 6, "StoryColumns", rfl, in_X0, Nat.le_of_ble_eq_true rfl, Or.inl (hts _ q125), fun _ h => h⟩, fun _ h9 => absurd h9 List.not_mem_nil⟩
theorem fl_X0_165 {G : Cx} {nL fr lc : Nat} {cc : ByteArray} {ret : Option FieldType} {nm : String} (hF : FX G cc nL RX0 ret nm fr lc) : ∀ c ∈ [5], GF G RX0 165 c 2 := by
  obtain ⟨⟨p, l, e, R, s, m, args, below, meth, c0⟩, A, D, dA, mi⟩ := G
  obtain ⟨hx, hb, hml, hown, hts, hr, hlk, hK, hnm, hfr, hlc⟩ := hF
  exact List.forall_mem_cons.mpr ⟨⟨RX5, TX5, 8, "StoryColumns$Story", rfl, in_X5, Nat.le_of_ble_eq_true rfl, Or.inr ⟨_, (va_Nw.use rfl (hK.2.1 _ n_q701))⟩, fun _ h => h⟩, fun _ h9 => absurd h9 List.not_mem_nil⟩
theorem cw_X5_number : CWm yX5_number cX5_number 1 (Option.some Jvm.ClassFile.FieldType.int) 0 := ⟨q789, q74, by decide +kernel, by decide +kernel, by decide +kernel⟩
theorem pl_X0_180 {G : Cx} {nL fr lc : Nat} {cc : ByteArray} {ret : Option FieldType} {nm : String} (hF : FX G cc nL RX0 ret nm fr lc) (x9 : Option Nat) : ∀ c ∈ [2, 3], PF G RX0 nm 180 c 10 (va_rf x9) := by
  obtain ⟨⟨p, l, e, R, s, m, args, below, meth, c0⟩, A, D, dA, mi⟩ := G
  obtain ⟨hx, hb, hml, hown, hts, hr, hlk, hK, hnm, hfr, hlc⟩ := hF
  exact List.forall_mem_cons.mpr ⟨⟨RX2, TX2, 13, "StoryColumns$Block", tyX2 10, rfl, in_X2, Nat.le_of_ble_eq_true rfl, Or.inl ⟨(hts _ q218), Or.inl rfl⟩, fun _ h => h, tyX2_ok 10 (Nat.le_of_ble_eq_true rfl), by cases x9 <;> rfl, by cases x9 <;> rfl, ap_2 hts hK⟩, List.forall_mem_cons.mpr ⟨⟨RX3, TX3, 14, "StoryColumns$Block", tyX3 10, rfl, in_X3, Nat.le_of_ble_eq_true rfl, Or.inl ⟨(hts _ q218), Or.inl rfl⟩, fun _ h => h, tyX3_ok 10 (Nat.le_of_ble_eq_true rfl), by cases x9 <;> rfl, by cases x9 <;> rfl, ap_3 hts hK⟩, fun _ h9 => absurd h9 List.not_mem_nil⟩⟩
theorem fl_X0_192 {G : Cx} {nL fr lc : Nat} {cc : ByteArray} {ret : Option FieldType} {nm : String} (hF : FX G cc nL RX0 ret nm fr lc) : ∀ c ∈ [5], GF G RX0 192 c 1 := by
  obtain ⟨⟨p, l, e, R, s, m, args, below, meth, c0⟩, A, D, dA, mi⟩ := G
  obtain ⟨hx, hb, hml, hown, hts, hr, hlk, hK, hnm, hfr, hlc⟩ := hF
  exact List.forall_mem_cons.mpr ⟨⟨RX5, TX5, 8, "StoryColumns$Story", rfl, in_X5, Nat.le_of_ble_eq_true rfl, Or.inr ⟨_, (va_Nw.use rfl (hK.2.1 _ n_q699))⟩, fun _ h => h⟩, fun _ h9 => absurd h9 List.not_mem_nil⟩
def fX0_laysStories_L101 : Nat → Option Nat → Option Nat → Mp → Nat → Rs Unit
  | 0, _, _, _, _ => none
  | fu + 1, l0, l1, M, z => if ckc M l1 [12] = true then
  (cb (fJ3_hasNext l1 M z) z fun v1 M2 z3 =>
if v1 = 0 then
  (some ((), M2, 0, 0))
else
  (if ckc M2 l1 [12] = true then
  (cb (fJ3_next l1 M2 z3) z3 fun v4 M5 z6 =>
if cst M5 v4 [2, 3] = true then
  ((gr M5 v4 [2, 3] 10).bind fun v7 =>
if v7 = none then
  (fX0_laysStories_L101 fu l0 l1 M5 z6)
else
  ((gi M5 v7 [5] 2).bind fun v8 =>
if v8 < 0 then
  (if ckc M5 v7 [5] = true then
  (cb (fX5_number v7 M5 z6) z6 fun v9 M10 z11 =>
(gi M10 v4 [2, 3] 0).bind fun v12 =>
if v9 = v12 then
  ((gr M10 l0 [0] 3).bind fun v13 =>
if ckc M10 v13 [11] = true then
  (cb (fJ2_size v13 M10 z11) z11 fun v14 M15 z16 =>
(pu M15 v7 [5] 2 (.int v14)).bind fun M17 =>
(gr M17 l0 [0] 3).bind fun v18 =>
if ckc M17 v18 [11] = true then
  (cb (fJ2_add v18 v7 M17 z16) z16 fun v19 M20 z21 =>
fX0_laysStories_L101 fu l0 l1 M20 z21)
else none)
else none)
else
  (fX0_laysStories_L101 fu l0 l1 M10 z11))
else none)
else
  (fX0_laysStories_L101 fu l0 l1 M5 z6)))
else none)
else none))
else none

theorem gX0_laysStories_L101 {G : Cx} {F : Option Value × Mp × Nat} (hF : FX G cX0_laysStories 4 RX0 (Option.none : Option Jvm.ClassFile.FieldType) "laysStories" 11 308) : ∀ (fu : Nat) (l0 : Option Nat) (l1 : Option Nat) (M : Mp) (z : Nat), SK G F 4 eV 101 [some (va_rf l0), some (va_rf l1), none, none] [] M z (fX0_laysStories_L101 fu l0 l1 M z) := by
  intro fu
  induction fu with
  | zero => intros; exact SK.fail
  | succ fu ih =>
    intro l0 l1 M z
    rw [fX0_laysStories_L101]
    refine s_aload_n (pc := 101) hF dX0_laysStories_101 rfl rfl ?_
    refine s_callF (pc := 102) (As := []) (st := []) (stf := fun r9 => .int r9 :: []) (x := ⟨"java/util/Iterator", "hasNext", "()Z"⟩) hF (mJ3_hasNext l1) cw_J3_hasNext rfl ⟨by decide, by decide⟩ q298 q325 n_q300 n_q299 n_q326 (List.forall_mem_cons.mpr ⟨⟨(RJ3, TJ3, 4), rfl, q323, n_q324, n_q322⟩, fun _ h9 => absurd h9 List.not_mem_nil⟩) rfl ⟨Nat.le_of_ble_eq_true rfl, Nat.le_of_ble_eq_true rfl⟩ ⟨trivial, Nat.le_of_ble_eq_true rfl⟩ dX0_laysStories_102 rfl (fun _ => rfl) (fun v1 M2 z3 => ?_)
    refine s_if_eq (pc := 107) hF 174 dX0_laysStories_107 rfl ?_ ?_
    · exact s_vret (pc := 174) hF dX0_laysStories_174
    · refine s_aload_n (pc := 110) hF dX0_laysStories_110 rfl rfl ?_
      refine s_callF (pc := 111) (As := []) (st := []) (stf := fun r9 => va_rf r9 :: []) (x := ⟨"java/util/Iterator", "next", "()Ljava/lang/Object;"⟩) hF (mJ3_next l1) cw_J3_next rfl ⟨by decide, by decide⟩ q381 q372 n_q331 n_q330 n_q373 (List.forall_mem_cons.mpr ⟨⟨(RJ3, TJ3, 4), rfl, q370, n_q371, n_q322⟩, fun _ h9 => absurd h9 List.not_mem_nil⟩) rfl ⟨Nat.le_of_ble_eq_true rfl, Nat.le_of_ble_eq_true rfl⟩ ⟨trivial, Nat.le_of_ble_eq_true rfl⟩ dX0_laysStories_111 rfl (fun _ => rfl) (fun v4 M5 z6 => ?_)
      refine s_cast (pc := 116) hF q252 (List.forall_mem_cons.mpr ⟨⟨(RX2, TX2, 13), rfl, Or.inl rfl⟩, List.forall_mem_cons.mpr ⟨⟨(RX3, TX3, 14), rfl, Or.inr n_q1359⟩, fun _ h9 => absurd h9 List.not_mem_nil⟩⟩) dX0_laysStories_116 ?_
      refine s_astore_n (L9 := [some (va_rf l0), some (va_rf l1), some (va_rf v4), none]) (pc := 119) hF dX0_laysStories_119 rfl (Nat.le_of_ble_eq_true rfl) rfl ?_
      refine s_aload_n (pc := 120) hF dX0_laysStories_120 rfl rfl ?_
      refine s_getr (pc := 121) hF (fl_X0_180 hF) dX0_laysStories_121 (fun v7 => ?_)
      refine s_astore_n (L9 := [some (va_rf l0), some (va_rf l1), some (va_rf v4), some (va_rf v7)]) (pc := 124) hF dX0_laysStories_124 rfl (Nat.le_of_ble_eq_true rfl) rfl ?_
      refine s_aload_n (pc := 125) hF dX0_laysStories_125 rfl rfl ?_
      refine s_ifnull (pc := 126) hF 171 dX0_laysStories_126 rfl ?_ ?_
      · refine s_goto (pc := 171) hF 101 dX0_laysStories_171 rfl ?_
        exact SK.sb (ih l0 l1 M5 z6) ⟨rfl, ⟨rfl, trivial⟩⟩
      · refine s_aload_n (pc := 129) hF dX0_laysStories_129 rfl rfl ?_
        refine s_geti (pc := 130) hF (fl_X0_165 hF) dX0_laysStories_130 (fun v8 => ?_)
        refine s_if_ge (pc := 133) hF 171 dX0_laysStories_133 rfl ?_ ?_
        · refine s_goto (pc := 171) hF 101 dX0_laysStories_171 rfl ?_
          exact SK.sb (ih l0 l1 M5 z6) ⟨rfl, ⟨rfl, trivial⟩⟩
        · refine s_aload_n (pc := 136) hF dX0_laysStories_136 rfl rfl ?_
          refine s_callV (pc := 137) (As := []) (st := []) (stf := fun r9 => .int r9 :: []) hF (mX5_number v7) cw_X5_number q786 q787 (List.forall_mem_cons.mpr ⟨⟨(RX5, TX5, 8), rfl, q788⟩, fun _ h9 => absurd h9 List.not_mem_nil⟩) rfl ⟨Nat.le_of_ble_eq_true rfl, Nat.le_of_ble_eq_true rfl⟩ ⟨trivial, Nat.le_of_ble_eq_true rfl⟩ dX0_laysStories_137 rfl (fun _ => rfl) (fun v9 M10 z11 => ?_)
          refine s_aload_n (pc := 140) hF dX0_laysStories_140 rfl rfl ?_
          refine s_geti (pc := 141) hF (fl_X0_150 hF) dX0_laysStories_141 (fun v12 => ?_)
          refine s_icmp_ne (pc := 144) hF 171 dX0_laysStories_144 rfl ?_ ?_
          · refine s_goto (pc := 171) hF 101 dX0_laysStories_171 rfl ?_
            exact SK.sb (ih l0 l1 M10 z11) ⟨rfl, ⟨rfl, trivial⟩⟩
          · refine s_aload_n (pc := 147) hF dX0_laysStories_147 rfl rfl ?_
            refine s_aload_n (pc := 148) hF dX0_laysStories_148 rfl rfl ?_
            refine s_getr (pc := 149) hF (fl_X0_21 hF) dX0_laysStories_149 (fun v13 => ?_)
            refine s_callF (pc := 152) (As := []) (st := [va_rf v7]) (stf := fun r9 => .int r9 :: [va_rf v7]) (x := ⟨"java/util/List", "size", "()I"⟩) hF (mJ2_size v13) cw_J2_size rfl ⟨by decide, by decide⟩ q152 q158 n_q154 n_q153 n_q159 (List.forall_mem_cons.mpr ⟨⟨(RJ2, TJ2, 3), rfl, q156, n_q157, n_q155⟩, fun _ h9 => absurd h9 List.not_mem_nil⟩) rfl ⟨Nat.le_of_ble_eq_true rfl, Nat.le_of_ble_eq_true rfl⟩ ⟨⟨ct _, trivial⟩, Nat.le_of_ble_eq_true rfl⟩ dX0_laysStories_152 rfl (fun _ => rfl) (fun v14 M15 z16 => ?_)
            refine s_put (pc := 157) hF (pl_X0_165 hF _) dX0_laysStories_157 (fun M17 => ?_)
            refine s_aload_n (pc := 160) hF dX0_laysStories_160 rfl rfl ?_
            refine s_getr (pc := 161) hF (fl_X0_21 hF) dX0_laysStories_161 (fun v18 => ?_)
            refine s_aload_n (pc := 164) hF dX0_laysStories_164 rfl rfl ?_
            refine s_callF (pc := 165) (As := [va_rf v7]) (st := []) (stf := fun r9 => .int r9 :: []) (x := ⟨"java/util/List", "add", "(Ljava/lang/Object;)Z"⟩) hF (mJ2_add v18 v7) cw_J2_add rfl ⟨by decide, by decide⟩ q446 q451 n_q448 n_q447 n_q452 (List.forall_mem_cons.mpr ⟨⟨(RJ2, TJ2, 3), rfl, q449, n_q450, n_q155⟩, fun _ h9 => absurd h9 List.not_mem_nil⟩) rfl ⟨Nat.le_of_ble_eq_true rfl, Nat.le_of_ble_eq_true rfl⟩ ⟨trivial, Nat.le_of_ble_eq_true rfl⟩ dX0_laysStories_165 rfl (fun _ => rfl) (fun v19 M20 z21 => ?_)
            refine s_pop (pc := 170) hF dX0_laysStories_170 rfl ?_
            refine s_goto (pc := 171) hF 101 dX0_laysStories_171 rfl ?_
            exact SK.sb (ih l0 l1 M20 z21) ⟨rfl, ⟨rfl, trivial⟩⟩

def fX0_laysStories_L19 : Nat → Option Nat → Option Nat → Mp → Nat → Rs Unit
  | 0, _, _, _, _ => none
  | fu + 1, l0, l1, M, z => if ckc M l1 [12] = true then
  (cb (fJ3_hasNext l1 M z) z fun v1 M2 z3 =>
if v1 = 0 then
  ((gr M2 l0 [0] 0).bind fun v4 =>
if ckc M2 v4 [11] = true then
  (cb (fJ2_iterator v4 M2 z3) z3 fun v5 M6 z7 =>
fX0_laysStories_L101 FU l0 v5 M6 z7)
else none)
else
  (if ckc M2 l1 [12] = true then
  (cb (fJ3_next l1 M2 z3) z3 fun v8 M9 z10 =>
if cst M9 v8 [2, 3] = true then
  (if ckc M9 v8 [2, 3] = true then
  (cb (fX2_isText v8 M9 z10) z10 fun v11 M12 z13 =>
if v11 = 0 then
  (fX0_laysStories_L19 fu l0 l1 M12 z13)
else
  ((gr M12 v8 [2, 3] 10).bind fun v14 =>
if v14 = none then
  (nwo 5 8 [.null, .null, .int 0, .int 0, .null, .null, .int 0, .null] M12 z13 fun M15 z16 =>
if (some z13) = none then none else
  (cb (fX5_init (some z13) l0 none M15 z16) z16 fun _ M18 z19 =>
(pu M18 v8 [2, 3] 10 (va_rf (some z13))).bind fun M20 =>
(gr M20 v8 [2, 3] 10).bind fun v21 =>
(pu M20 v21 [5] 2 (.int (-9 : Int32))).bind fun M22 =>
(gr M22 v8 [2, 3] 10).bind fun v23 =>
(gr M22 v23 [5] 1).bind fun v24 =>
if ckc M22 v24 [11] = true then
  (cb (fJ2_add v24 v8 M22 z19) z19 fun v25 M26 z27 =>
fX0_laysStories_L19 fu l0 l1 M26 z27)
else none))
else
  (fX0_laysStories_L19 fu l0 l1 M12 z13)))
else none)
else none)
else none))
else none

theorem gX0_laysStories_L19 {G : Cx} {F : Option Value × Mp × Nat} (hF : FX G cX0_laysStories 4 RX0 (Option.none : Option Jvm.ClassFile.FieldType) "laysStories" 11 308) : ∀ (fu : Nat) (l0 : Option Nat) (l1 : Option Nat) (M : Mp) (z : Nat), SK G F 4 eV 19 [some (va_rf l0), some (va_rf l1), none, none] [] M z (fX0_laysStories_L19 fu l0 l1 M z) := by
  intro fu
  induction fu with
  | zero => intros; exact SK.fail
  | succ fu ih =>
    intro l0 l1 M z
    rw [fX0_laysStories_L19]
    refine s_aload_n (pc := 19) hF dX0_laysStories_19 rfl rfl ?_
    refine s_callF (pc := 20) (As := []) (st := []) (stf := fun r9 => .int r9 :: []) (x := ⟨"java/util/Iterator", "hasNext", "()Z"⟩) hF (mJ3_hasNext l1) cw_J3_hasNext rfl ⟨by decide, by decide⟩ q298 q325 n_q300 n_q299 n_q326 (List.forall_mem_cons.mpr ⟨⟨(RJ3, TJ3, 4), rfl, q323, n_q324, n_q322⟩, fun _ h9 => absurd h9 List.not_mem_nil⟩) rfl ⟨Nat.le_of_ble_eq_true rfl, Nat.le_of_ble_eq_true rfl⟩ ⟨trivial, Nat.le_of_ble_eq_true rfl⟩ dX0_laysStories_20 rfl (fun _ => rfl) (fun v1 M2 z3 => ?_)
    refine s_if_eq (pc := 25) hF 91 dX0_laysStories_25 rfl ?_ ?_
    · refine s_aload_n (pc := 91) hF dX0_laysStories_91 rfl rfl ?_
      refine s_getr (pc := 92) hF (fl_X0_14 hF) dX0_laysStories_92 (fun v4 => ?_)
      refine s_callF (pc := 95) (As := []) (st := []) (stf := fun r9 => va_rf r9 :: []) (x := ⟨"java/util/List", "iterator", "()Ljava/util/Iterator;"⟩) hF (mJ2_iterator v4) cw_J2_iterator rfl ⟨by decide, by decide⟩ q270 q275 n_q272 n_q271 n_q276 (List.forall_mem_cons.mpr ⟨⟨(RJ2, TJ2, 3), rfl, q273, n_q274, n_q155⟩, fun _ h9 => absurd h9 List.not_mem_nil⟩) rfl ⟨Nat.le_of_ble_eq_true rfl, Nat.le_of_ble_eq_true rfl⟩ ⟨trivial, Nat.le_of_ble_eq_true rfl⟩ dX0_laysStories_95 rfl (fun _ => rfl) (fun v5 M6 z7 => ?_)
      refine s_astore_n (L9 := [some (va_rf l0), some (va_rf v5), none, none]) (pc := 100) hF dX0_laysStories_100 rfl (Nat.le_of_ble_eq_true rfl) rfl ?_
      exact SK.sb (gX0_laysStories_L101 hF FU l0 v5 M6 z7) ⟨rfl, ⟨rfl, trivial⟩⟩
    · refine s_aload_n (pc := 28) hF dX0_laysStories_28 rfl rfl ?_
      refine s_callF (pc := 29) (As := []) (st := []) (stf := fun r9 => va_rf r9 :: []) (x := ⟨"java/util/Iterator", "next", "()Ljava/lang/Object;"⟩) hF (mJ3_next l1) cw_J3_next rfl ⟨by decide, by decide⟩ q381 q372 n_q331 n_q330 n_q373 (List.forall_mem_cons.mpr ⟨⟨(RJ3, TJ3, 4), rfl, q370, n_q371, n_q322⟩, fun _ h9 => absurd h9 List.not_mem_nil⟩) rfl ⟨Nat.le_of_ble_eq_true rfl, Nat.le_of_ble_eq_true rfl⟩ ⟨trivial, Nat.le_of_ble_eq_true rfl⟩ dX0_laysStories_29 rfl (fun _ => rfl) (fun v8 M9 z10 => ?_)
      refine s_cast (pc := 34) hF q252 (List.forall_mem_cons.mpr ⟨⟨(RX2, TX2, 13), rfl, Or.inl rfl⟩, List.forall_mem_cons.mpr ⟨⟨(RX3, TX3, 14), rfl, Or.inr n_q1359⟩, fun _ h9 => absurd h9 List.not_mem_nil⟩⟩) dX0_laysStories_34 ?_
      refine s_astore_n (L9 := [some (va_rf l0), some (va_rf l1), some (va_rf v8), none]) (pc := 37) hF dX0_laysStories_37 rfl (Nat.le_of_ble_eq_true rfl) rfl ?_
      refine s_aload_n (pc := 38) hF dX0_laysStories_38 rfl rfl ?_
      refine s_callV (pc := 39) (As := []) (st := []) (stf := fun r9 => .int r9 :: []) hF (mX2_isText v8) cw_X2_isText q524 q525 (List.forall_mem_cons.mpr ⟨⟨(RX2, TX2, 13), rfl, q526⟩, List.forall_mem_cons.mpr ⟨⟨(RX3, TX3, 14), rfl, q528⟩, fun _ h9 => absurd h9 List.not_mem_nil⟩⟩) rfl ⟨Nat.le_of_ble_eq_true rfl, Nat.le_of_ble_eq_true rfl⟩ ⟨trivial, Nat.le_of_ble_eq_true rfl⟩ dX0_laysStories_39 rfl (fun _ => rfl) (fun v11 M12 z13 => ?_)
      refine s_if_eq (pc := 42) hF 88 dX0_laysStories_42 rfl ?_ ?_
      · refine s_goto (pc := 88) hF 19 dX0_laysStories_88 rfl ?_
        exact SK.sb (ih l0 l1 M12 z13) ⟨rfl, ⟨rfl, trivial⟩⟩
      · refine s_aload_n (pc := 45) hF dX0_laysStories_45 rfl rfl ?_
        refine s_getr (pc := 46) hF (fl_X0_180 hF) dX0_laysStories_46 (fun v14 => ?_)
        refine s_ifnonnull (pc := 49) hF 88 dX0_laysStories_49 rfl ?_ ?_
        · refine s_goto (pc := 88) hF 19 dX0_laysStories_88 rfl ?_
          exact SK.sb (ih l0 l1 M12 z13) ⟨rfl, ⟨rfl, trivial⟩⟩
        · refine s_aload_n (pc := 52) hF dX0_laysStories_52 rfl rfl ?_
          refine s_nwo (pc := 53) hF dX0_laysStories_53 rfl in_X5 tyX5 tyX5_ok q685 q686 q74 (fun j hj => by rcases (show j = 0 ∨ j = 1 ∨ j = 2 ∨ j = 3 ∨ j = 4 ∨ j = 5 ∨ j = 6 ∨ j = 7 by omega) with rfl | rfl | rfl | rfl | rfl | rfl | rfl | rfl <;> rfl) (fun M15 z16 => ?_)
          refine s_dup (pc := 56) hF dX0_laysStories_56 (ct _) ?_
          refine s_aload_n (pc := 57) hF dX0_laysStories_57 rfl rfl ?_
          refine s_null (pc := 58) hF dX0_laysStories_58 ?_
          refine s_callJ (pc := 59) (As := [va_rf l0, va_rf none]) (st := [va_rf (some z13), va_rf v8]) (stf := fun r9 => [va_rf (some z13), va_rf v8]) hF (mX5_init (some z13) l0 none) cw_X5_init q687 q688 rfl rfl ⟨Nat.le_of_ble_eq_true rfl, Nat.le_of_ble_eq_true rfl⟩ ⟨⟨ct _, ⟨ct _, trivial⟩⟩, Nat.le_of_ble_eq_true rfl⟩ dX0_laysStories_59 rfl (fun _ => rfl) (fun v17 M18 z19 => ?_)
          refine s_put (pc := 62) hF (pl_X0_180 hF _) dX0_laysStories_62 (fun M20 => ?_)
          refine s_aload_n (pc := 65) hF dX0_laysStories_65 rfl rfl ?_
          refine s_getr (pc := 66) hF (fl_X0_180 hF) dX0_laysStories_66 (fun v21 => ?_)
          refine s_bipush (pc := 69) hF dX0_laysStories_69 (-9 : Int32) (by decide) ?_
          refine s_put (pc := 71) hF (pl_X0_165 hF _) dX0_laysStories_71 (fun M22 => ?_)
          refine s_aload_n (pc := 74) hF dX0_laysStories_74 rfl rfl ?_
          refine s_getr (pc := 75) hF (fl_X0_180 hF) dX0_laysStories_75 (fun v23 => ?_)
          refine s_getr (pc := 78) hF (fl_X0_192 hF) dX0_laysStories_78 (fun v24 => ?_)
          refine s_aload_n (pc := 81) hF dX0_laysStories_81 rfl rfl ?_
          refine s_callF (pc := 82) (As := [va_rf v8]) (st := []) (stf := fun r9 => .int r9 :: []) (x := ⟨"java/util/List", "add", "(Ljava/lang/Object;)Z"⟩) hF (mJ2_add v24 v8) cw_J2_add rfl ⟨by decide, by decide⟩ q446 q451 n_q448 n_q447 n_q452 (List.forall_mem_cons.mpr ⟨⟨(RJ2, TJ2, 3), rfl, q449, n_q450, n_q155⟩, fun _ h9 => absurd h9 List.not_mem_nil⟩) rfl ⟨Nat.le_of_ble_eq_true rfl, Nat.le_of_ble_eq_true rfl⟩ ⟨trivial, Nat.le_of_ble_eq_true rfl⟩ dX0_laysStories_82 rfl (fun _ => rfl) (fun v25 M26 z27 => ?_)
          refine s_pop (pc := 87) hF dX0_laysStories_87 rfl ?_
          refine s_goto (pc := 88) hF 19 dX0_laysStories_88 rfl ?_
          exact SK.sb (ih l0 l1 M26 z27) ⟨rfl, ⟨rfl, trivial⟩⟩
def fX0_laysStories (a0 : Option Nat) (M : Mp) (z : Nat) : Rs Unit := (gr M a0 [0] 3).bind fun v1 =>
if ckc M v1 [11] = true then
  (cb (fJ2_clear v1 M z) z fun _ M3 z4 =>
(gr M3 a0 [0] 0).bind fun v5 =>
if ckc M3 v5 [11] = true then
  (cb (fJ2_iterator v5 M3 z4) z4 fun v6 M7 z8 =>
fX0_laysStories_L19 FU a0 v6 M7 z8)
else none)
else none
theorem gX0_laysStories {G : Cx} {F : Option Value × Mp × Nat} (hF : FX G cX0_laysStories 4 RX0 (Option.none : Option Jvm.ClassFile.FieldType) "laysStories" 11 308) (a0 : Option Nat) (M : Mp) (z : Nat) : SK G F 4 eV 0 [some (va_rf a0), none, none, none] [] M z (fX0_laysStories a0 M z) := by
  unfold fX0_laysStories
  refine s_aload_n (pc := 0) hF dX0_laysStories_0 rfl rfl ?_
  refine s_getr (pc := 1) hF (fl_X0_21 hF) dX0_laysStories_1 (fun v1 => ?_)
  refine s_callF (pc := 4) (As := []) (st := []) (stf := fun r9 => []) (x := ⟨"java/util/List", "clear", "()V"⟩) hF (mJ2_clear v1) cw_J2_clear rfl ⟨by decide, by decide⟩ q602 q607 n_q604 n_q603 n_q608 (List.forall_mem_cons.mpr ⟨⟨(RJ2, TJ2, 3), rfl, q605, n_q606, n_q155⟩, fun _ h9 => absurd h9 List.not_mem_nil⟩) rfl ⟨Nat.le_of_ble_eq_true rfl, Nat.le_of_ble_eq_true rfl⟩ ⟨trivial, Nat.le_of_ble_eq_true rfl⟩ dX0_laysStories_4 rfl (fun _ => rfl) (fun v2 M3 z4 => ?_)
  refine s_aload_n (pc := 9) hF dX0_laysStories_9 rfl rfl ?_
  refine s_getr (pc := 10) hF (fl_X0_14 hF) dX0_laysStories_10 (fun v5 => ?_)
  refine s_callF (pc := 13) (As := []) (st := []) (stf := fun r9 => va_rf r9 :: []) (x := ⟨"java/util/List", "iterator", "()Ljava/util/Iterator;"⟩) hF (mJ2_iterator v5) cw_J2_iterator rfl ⟨by decide, by decide⟩ q270 q275 n_q272 n_q271 n_q276 (List.forall_mem_cons.mpr ⟨⟨(RJ2, TJ2, 3), rfl, q273, n_q274, n_q155⟩, fun _ h9 => absurd h9 List.not_mem_nil⟩) rfl ⟨Nat.le_of_ble_eq_true rfl, Nat.le_of_ble_eq_true rfl⟩ ⟨trivial, Nat.le_of_ble_eq_true rfl⟩ dX0_laysStories_13 rfl (fun _ => rfl) (fun v6 M7 z8 => ?_)
  refine s_astore_n (L9 := [some (va_rf a0), some (va_rf v6), none, none]) (pc := 18) hF dX0_laysStories_18 rfl (Nat.le_of_ble_eq_true rfl) rfl ?_
  exact SK.sb (gX0_laysStories_L19 hF FU a0 v6 M7 z8) ⟨rfl, ⟨rfl, trivial⟩⟩
theorem mX0_laysStories (a0 : Option Nat) : MT yX0_laysStories cX0_laysStories 4 (Option.none : Option Jvm.ClassFile.FieldType) 11 308 eV [va_rf a0] (fX0_laysStories a0) :=
  MT.of (L0 := [some (va_rf a0), none, none, none]) (by decide) ⟨ct _, trivial⟩ (Nat.le_of_ble_eq_true rfl) rfl (fun _ _ hF M z => gX0_laysStories hF a0 M z)

theorem fl_X5_106 {G : Cx} {nL fr lc : Nat} {cc : ByteArray} {ret : Option FieldType} {nm : String} (hF : FX G cc nL RX5 ret nm fr lc) : ∀ c ∈ [2, 3], GF G RX5 106 c 8 := by
  obtain ⟨⟨p, l, e, R, s, m, args, below, meth, c0⟩, A, D, dA, mi⟩ := G
  obtain ⟨hx, hb, hml, hown, hts, hr, hlk, hK, hnm, hfr, hlc⟩ := hF
  exact List.forall_mem_cons.mpr ⟨⟨RX2, TX2, 13, "StoryColumns$Block", rfl, in_X2, Nat.le_of_ble_eq_true rfl, Or.inl (hts _ q209), fun _ h => h⟩, List.forall_mem_cons.mpr ⟨⟨RX3, TX3, 14, "StoryColumns$Block", rfl, in_X3, Nat.le_of_ble_eq_true rfl, Or.inl (hts _ q209), fun _ h => h⟩, fun _ h9 => absurd h9 List.not_mem_nil⟩⟩
def fX5_goer_J45 (r12 : Option Nat → Option Nat → Mp → Nat → Rs (Option Nat)) (l2 : Option Nat) (s0 : Option Nat) (M : Mp) (z : Nat) : Rs (Option Nat) := r12 s0 l2 M z

theorem gX5_goer_J45 {G : Cx} {F : Option Value × Mp × Nat}  {r12 : Option Nat → Option Nat → Mp → Nat → Rs (Option Nat)}(hF : FX G cX5_goer 4 RX5 (Option.some (Jvm.ClassFile.FieldType.object "StoryColumns$Block")) "goer" 3 61) (hr12 : ∀ l1 l2 M z, SK G F 4 eR 12 [none, some (va_rf l1), some (va_rf l2), none] [] M z (r12 l1 l2 M z)) (l2 : Option Nat) (s0 : Option Nat) (M : Mp) (z : Nat) : SK G F 4 eR 45 [none, none, some (va_rf l2), none] [va_rf s0] M z (fX5_goer_J45 r12 l2 s0 M z) := by
  unfold fX5_goer_J45
  refine s_astore_n (L9 := [none, some (va_rf s0), some (va_rf l2), none]) (pc := 45) hF dX5_goer_45 rfl (Nat.le_of_ble_eq_true rfl) rfl ?_
  refine s_goto (pc := 46) hF 12 dX5_goer_46 rfl ?_
  exact SK.sb (hr12 s0 l2 M z) ⟨rfl, ⟨rfl, trivial⟩⟩

def fX5_goer_L12 : Nat → Option Nat → Option Nat → Mp → Nat → Rs (Option Nat)
  | 0, _, _, _, _ => none
  | fu + 1, l1, l2, M, z => if ckc M l2 [12] = true then
  (cb (fJ3_hasNext l2 M z) z fun v1 M2 z3 =>
if v1 = 0 then
  (some (l1, M2, 0, 0))
else
  (if ckc M2 l2 [12] = true then
  (cb (fJ3_next l2 M2 z3) z3 fun v4 M5 z6 =>
if cst M5 v4 [2, 3] = true then
  ((gr M5 v4 [2, 3] 8).bind fun v7 =>
(ar M5 3 v7 (0 : Int32)).bind fun v8 =>
if v8 = none then
  (fX5_goer_J45 (fX5_goer_L12 fu) l2 l1 M5 z6)
else
  (fX5_goer_J45 (fX5_goer_L12 fu) l2 v4 M5 z6))
else none)
else none))
else none

theorem gX5_goer_L12 {G : Cx} {F : Option Value × Mp × Nat} (hF : FX G cX5_goer 4 RX5 (Option.some (Jvm.ClassFile.FieldType.object "StoryColumns$Block")) "goer" 3 61) : ∀ (fu : Nat) (l1 : Option Nat) (l2 : Option Nat) (M : Mp) (z : Nat), SK G F 4 eR 12 [none, some (va_rf l1), some (va_rf l2), none] [] M z (fX5_goer_L12 fu l1 l2 M z) := by
  intro fu
  induction fu with
  | zero => intros; exact SK.fail
  | succ fu ih =>
    intro l1 l2 M z
    rw [fX5_goer_L12]
    refine s_aload_n (pc := 12) hF dX5_goer_12 rfl rfl ?_
    refine s_callF (pc := 13) (As := []) (st := []) (stf := fun r9 => .int r9 :: []) (x := ⟨"java/util/Iterator", "hasNext", "()Z"⟩) hF (mJ3_hasNext l2) cw_J3_hasNext rfl ⟨by decide, by decide⟩ q820 q325 n_q300 n_q299 n_q326 (List.forall_mem_cons.mpr ⟨⟨(RJ3, TJ3, 4), rfl, q323, n_q324, n_q322⟩, fun _ h9 => absurd h9 List.not_mem_nil⟩) rfl ⟨Nat.le_of_ble_eq_true rfl, Nat.le_of_ble_eq_true rfl⟩ ⟨trivial, Nat.le_of_ble_eq_true rfl⟩ dX5_goer_13 rfl (fun _ => rfl) (fun v1 M2 z3 => ?_)
    refine s_if_eq (pc := 18) hF 49 dX5_goer_18 rfl ?_ ?_
    · refine s_aload_n (pc := 49) hF dX5_goer_49 rfl rfl ?_
      exact s_aret (pc := 50) hF rfl (Or.inl ⟨_, rfl⟩) dX5_goer_50
    · refine s_aload_n (pc := 21) hF dX5_goer_21 rfl rfl ?_
      refine s_callF (pc := 22) (As := []) (st := []) (stf := fun r9 => va_rf r9 :: []) (x := ⟨"java/util/Iterator", "next", "()Ljava/lang/Object;"⟩) hF (mJ3_next l2) cw_J3_next rfl ⟨by decide, by decide⟩ q822 q372 n_q331 n_q330 n_q373 (List.forall_mem_cons.mpr ⟨⟨(RJ3, TJ3, 4), rfl, q370, n_q371, n_q322⟩, fun _ h9 => absurd h9 List.not_mem_nil⟩) rfl ⟨Nat.le_of_ble_eq_true rfl, Nat.le_of_ble_eq_true rfl⟩ ⟨trivial, Nat.le_of_ble_eq_true rfl⟩ dX5_goer_22 rfl (fun _ => rfl) (fun v4 M5 z6 => ?_)
      refine s_cast (pc := 27) hF q740 (List.forall_mem_cons.mpr ⟨⟨(RX2, TX2, 13), rfl, Or.inl rfl⟩, List.forall_mem_cons.mpr ⟨⟨(RX3, TX3, 14), rfl, Or.inr n_q1359⟩, fun _ h9 => absurd h9 List.not_mem_nil⟩⟩) dX5_goer_27 ?_
      refine s_astore_n (L9 := [none, some (va_rf l1), some (va_rf l2), some (va_rf v4)]) (pc := 30) hF dX5_goer_30 rfl (Nat.le_of_ble_eq_true rfl) rfl ?_
      refine s_aload_n (pc := 31) hF dX5_goer_31 rfl rfl ?_
      refine s_getr (pc := 32) hF (fl_X5_106 hF) dX5_goer_32 (fun v7 => ?_)
      refine s_iconst (pc := 35) hF dX5_goer_35 (0 : Int32) (by decide) ?_
      refine s_aald (pc := 36) 3 (by decide) hF dX5_goer_36 (fun v8 => ?_)
      refine s_ifnonnull (pc := 37) hF 44 dX5_goer_37 rfl ?_ ?_
      · refine s_aload_n (pc := 44) hF dX5_goer_44 rfl rfl ?_
        exact SK.sb (gX5_goer_J45 hF ih l2 v4 M5 z6) ⟨rfl, trivial⟩
      · refine s_aload_n (pc := 40) hF dX5_goer_40 rfl rfl ?_
        refine s_goto (pc := 41) hF 45 dX5_goer_41 rfl ?_
        exact SK.sb (gX5_goer_J45 hF ih l2 l1 M5 z6) ⟨rfl, trivial⟩
def fX5_goer (a0 : Option Nat) (M : Mp) (z : Nat) : Rs (Option Nat) := (gr M a0 [5] 1).bind fun v1 =>
if ckc M v1 [11] = true then
  (cb (fJ2_iterator v1 M z) z fun v2 M3 z4 =>
fX5_goer_L12 FU none v2 M3 z4)
else none
theorem gX5_goer {G : Cx} {F : Option Value × Mp × Nat} (hF : FX G cX5_goer 4 RX5 (Option.some (Jvm.ClassFile.FieldType.object "StoryColumns$Block")) "goer" 3 61) (a0 : Option Nat) (M : Mp) (z : Nat) : SK G F 4 eR 0 [some (va_rf a0), none, none, none] [] M z (fX5_goer a0 M z) := by
  unfold fX5_goer
  refine s_null (pc := 0) hF dX5_goer_0 ?_
  refine s_astore_n (L9 := [some (va_rf a0), some (va_rf none), none, none]) (pc := 1) hF dX5_goer_1 rfl (Nat.le_of_ble_eq_true rfl) rfl ?_
  refine s_aload_n (pc := 2) hF dX5_goer_2 rfl rfl ?_
  refine s_getr (pc := 3) hF (fl_X5_20 hF) dX5_goer_3 (fun v1 => ?_)
  refine s_callF (pc := 6) (As := []) (st := []) (stf := fun r9 => va_rf r9 :: []) (x := ⟨"java/util/List", "iterator", "()Ljava/util/Iterator;"⟩) hF (mJ2_iterator v1) cw_J2_iterator rfl ⟨by decide, by decide⟩ q818 q275 n_q272 n_q271 n_q276 (List.forall_mem_cons.mpr ⟨⟨(RJ2, TJ2, 3), rfl, q273, n_q274, n_q155⟩, fun _ h9 => absurd h9 List.not_mem_nil⟩) rfl ⟨Nat.le_of_ble_eq_true rfl, Nat.le_of_ble_eq_true rfl⟩ ⟨trivial, Nat.le_of_ble_eq_true rfl⟩ dX5_goer_6 rfl (fun _ => rfl) (fun v2 M3 z4 => ?_)
  refine s_astore_n (L9 := [some (va_rf a0), some (va_rf none), some (va_rf v2), none]) (pc := 11) hF dX5_goer_11 rfl (Nat.le_of_ble_eq_true rfl) rfl ?_
  exact SK.sb (gX5_goer_L12 hF FU none v2 M3 z4) ⟨rfl, ⟨rfl, trivial⟩⟩
theorem mX5_goer (a0 : Option Nat) : MT yX5_goer cX5_goer 4 (Option.some (Jvm.ClassFile.FieldType.object "StoryColumns$Block")) 3 61 eR [va_rf a0] (fX5_goer a0) :=
  MT.of (L0 := [some (va_rf a0), none, none, none]) (by decide) ⟨ct _, trivial⟩ (Nat.le_of_ble_eq_true rfl) rfl (fun _ _ hF M z => gX5_goer hF a0 M z)

theorem fl_X6_7 {G : Cx} {nL fr lc : Nat} {cc : ByteArray} {ret : Option FieldType} {nm : String} (hF : FX G cc nL RX6 ret nm fr lc) : ∀ c ∈ [6], GF G RX6 7 c 0 := by
  obtain ⟨⟨p, l, e, R, s, m, args, below, meth, c0⟩, A, D, dA, mi⟩ := G
  obtain ⟨hx, hb, hml, hown, hts, hr, hlk, hK, hnm, hfr, hlc⟩ := hF
  exact List.forall_mem_cons.mpr ⟨⟨RX6, TX6, 2, "StoryColumns$Mark", rfl, in_X6, Nat.le_of_ble_eq_true rfl, Or.inl (hts _ q880), fun _ h => h⟩, fun _ h9 => absurd h9 List.not_mem_nil⟩
theorem fl_X6_13 {G : Cx} {nL fr lc : Nat} {cc : ByteArray} {ret : Option FieldType} {nm : String} (hF : FX G cc nL RX6 ret nm fr lc) : ∀ c ∈ [6], GF G RX6 13 c 1 := by
  obtain ⟨⟨p, l, e, R, s, m, args, below, meth, c0⟩, A, D, dA, mi⟩ := G
  obtain ⟨hx, hb, hml, hown, hts, hr, hlk, hK, hnm, hfr, hlc⟩ := hF
  exact List.forall_mem_cons.mpr ⟨⟨RX6, TX6, 2, "StoryColumns$Mark", rfl, in_X6, Nat.le_of_ble_eq_true rfl, Or.inl (hts _ q883), fun _ h => h⟩, fun _ h9 => absurd h9 List.not_mem_nil⟩
def fX6_is (a0 : Option Nat) (a1 : Int32) (a2 : Int32) (M : Mp) (z : Nat) : Rs Int32 := (gi M a0 [6] 0).bind fun v1 =>
if v1 = a1 then
  ((gi M a0 [6] 1).bind fun v2 =>
if v2 = a2 then
  (some ((1 : Int32), M, 0, 0))
else
  (some ((0 : Int32), M, 0, 0)))
else
  (some ((0 : Int32), M, 0, 0))
theorem gX6_is {G : Cx} {F : Option Value × Mp × Nat} (hF : FX G cX6_is 3 RX6 (Option.some Jvm.ClassFile.FieldType.boolean) "is" 0 0) (a0 : Option Nat) (a1 : Int32) (a2 : Int32) (M : Mp) (z : Nat) : SK G F 3 eI 0 [some (va_rf a0), some (.int a1), some (.int a2)] [] M z (fX6_is a0 a1 a2 M z) := by
  unfold fX6_is
  refine s_aload_n (pc := 0) hF dX6_is_0 rfl rfl ?_
  refine s_geti (pc := 1) hF (fl_X6_7 hF) dX6_is_1 (fun v1 => ?_)
  refine s_iload_n (pc := 4) hF dX6_is_4 rfl rfl ?_
  refine s_icmp_ne (pc := 5) hF 20 dX6_is_5 rfl ?_ ?_
  · refine s_iconst (pc := 20) hF dX6_is_20 (0 : Int32) (by decide) ?_
    exact s_zretL (pc := 21) hF dX6_is_21 (by decide)
  · refine s_aload_n (pc := 8) hF dX6_is_8 rfl rfl ?_
    refine s_geti (pc := 9) hF (fl_X6_13 hF) dX6_is_9 (fun v2 => ?_)
    refine s_iload_n (pc := 12) hF dX6_is_12 rfl rfl ?_
    refine s_icmp_ne (pc := 13) hF 20 dX6_is_13 rfl ?_ ?_
    · refine s_iconst (pc := 20) hF dX6_is_20 (0 : Int32) (by decide) ?_
      exact s_zretL (pc := 21) hF dX6_is_21 (by decide)
    · refine s_iconst (pc := 16) hF dX6_is_16 (1 : Int32) (by decide) ?_
      refine s_goto (pc := 17) hF 21 dX6_is_17 rfl ?_
      exact s_zretL (pc := 21) hF dX6_is_21 (by decide)
theorem mX6_is (a0 : Option Nat) (a1 : Int32) (a2 : Int32) : MT yX6_is cX6_is 3 (Option.some Jvm.ClassFile.FieldType.boolean) 0 0 eI [va_rf a0, .int a1, .int a2] (fX6_is a0 a1 a2) :=
  MT.of (L0 := [some (va_rf a0), some (.int a1), some (.int a2)]) (by decide) ⟨ct _, ⟨rfl, ⟨rfl, trivial⟩⟩⟩ (Nat.le_of_ble_eq_true rfl) rfl (fun _ _ hF M z => gX6_is hF a0 a1 a2 M z)

theorem fl_X5_3 {G : Cx} {nL fr lc : Nat} {cc : ByteArray} {ret : Option FieldType} {nm : String} (hF : FX G cc nL RX5 ret nm fr lc) : ∀ c ∈ [5], GF G RX5 3 c 7 := by
  obtain ⟨⟨p, l, e, R, s, m, args, below, meth, c0⟩, A, D, dA, mi⟩ := G
  obtain ⟨hx, hb, hml, hown, hts, hr, hlk, hK, hnm, hfr, hlc⟩ := hF
  exact List.forall_mem_cons.mpr ⟨⟨RX5, TX5, 8, "StoryColumns$Story", rfl, in_X5, Nat.le_of_ble_eq_true rfl, Or.inl (hts _ q709), fun _ h => h⟩, fun _ h9 => absurd h9 List.not_mem_nil⟩
theorem fl_X5_99 {G : Cx} {nL fr lc : Nat} {cc : ByteArray} {ret : Option FieldType} {nm : String} (hF : FX G cc nL RX5 ret nm fr lc) : ∀ c ∈ [0], GF G RX5 99 c 0 := by
  obtain ⟨⟨p, l, e, R, s, m, args, below, meth, c0⟩, A, D, dA, mi⟩ := G
  obtain ⟨hx, hb, hml, hown, hts, hr, hlk, hK, hnm, hfr, hlc⟩ := hF
  exact List.forall_mem_cons.mpr ⟨⟨RX0, TX0, 6, "StoryColumns", rfl, in_X0, Nat.le_of_ble_eq_true rfl, Or.inr ⟨_, (va_Nw.use rfl (hK.2.1 _ n_q121))⟩, fun _ h => h⟩, fun _ h9 => absurd h9 List.not_mem_nil⟩
theorem fl_X5_114 {G : Cx} {nL fr lc : Nat} {cc : ByteArray} {ret : Option FieldType} {nm : String} (hF : FX G cc nL RX5 ret nm fr lc) : ∀ c ∈ [2, 3], GF G RX5 114 c 1 := by
  obtain ⟨⟨p, l, e, R, s, m, args, below, meth, c0⟩, A, D, dA, mi⟩ := G
  obtain ⟨hx, hb, hml, hown, hts, hr, hlk, hK, hnm, hfr, hlc⟩ := hF
  exact List.forall_mem_cons.mpr ⟨⟨RX2, TX2, 13, "StoryColumns$Block", rfl, in_X2, Nat.le_of_ble_eq_true rfl, Or.inl (hts _ q183), fun _ h => h⟩, List.forall_mem_cons.mpr ⟨⟨RX3, TX3, 14, "StoryColumns$Block", rfl, in_X3, Nat.le_of_ble_eq_true rfl, Or.inl (hts _ q183), fun _ h => h⟩, fun _ h9 => absurd h9 List.not_mem_nil⟩⟩
theorem fl_X5_117 {G : Cx} {nL fr lc : Nat} {cc : ByteArray} {ret : Option FieldType} {nm : String} (hF : FX G cc nL RX5 ret nm fr lc) : ∀ c ∈ [6], GF G RX5 117 c 0 := by
  obtain ⟨⟨p, l, e, R, s, m, args, below, meth, c0⟩, A, D, dA, mi⟩ := G
  obtain ⟨hx, hb, hml, hown, hts, hr, hlk, hK, hnm, hfr, hlc⟩ := hF
  exact List.forall_mem_cons.mpr ⟨⟨RX6, TX6, 2, "StoryColumns$Mark", rfl, in_X6, Nat.le_of_ble_eq_true rfl, Or.inr ⟨_, (va_Nw.use rfl (hK.2.1 _ n_q881))⟩, fun _ h => h⟩, fun _ h9 => absurd h9 List.not_mem_nil⟩
theorem fl_X5_120 {G : Cx} {nL fr lc : Nat} {cc : ByteArray} {ret : Option FieldType} {nm : String} (hF : FX G cc nL RX5 ret nm fr lc) : ∀ c ∈ [6], GF G RX5 120 c 1 := by
  obtain ⟨⟨p, l, e, R, s, m, args, below, meth, c0⟩, A, D, dA, mi⟩ := G
  obtain ⟨hx, hb, hml, hown, hts, hr, hlk, hK, hnm, hfr, hlc⟩ := hF
  exact List.forall_mem_cons.mpr ⟨⟨RX6, TX6, 2, "StoryColumns$Mark", rfl, in_X6, Nat.le_of_ble_eq_true rfl, Or.inr ⟨_, (va_Nw.use rfl (hK.2.1 _ n_q884))⟩, fun _ h => h⟩, fun _ h9 => absurd h9 List.not_mem_nil⟩
theorem fl_X5_62 {G : Cx} {nL fr lc : Nat} {cc : ByteArray} {ret : Option FieldType} {nm : String} (hF : FX G cc nL RX5 ret nm fr lc) : ∀ c ∈ [2, 3], GF G RX5 62 c 10 := by
  obtain ⟨⟨p, l, e, R, s, m, args, below, meth, c0⟩, A, D, dA, mi⟩ := G
  obtain ⟨hx, hb, hml, hown, hts, hr, hlk, hK, hnm, hfr, hlc⟩ := hF
  exact List.forall_mem_cons.mpr ⟨⟨RX2, TX2, 13, "StoryColumns$Block", rfl, in_X2, Nat.le_of_ble_eq_true rfl, Or.inl (hts _ q214), fun _ h => h⟩, List.forall_mem_cons.mpr ⟨⟨RX3, TX3, 14, "StoryColumns$Block", rfl, in_X3, Nat.le_of_ble_eq_true rfl, Or.inl (hts _ q214), fun _ h => h⟩, fun _ h9 => absurd h9 List.not_mem_nil⟩⟩
theorem cw_X6_is : CWm yX6_is cX6_is 3 (Option.some Jvm.ClassFile.FieldType.boolean) 2 := ⟨q826, q75, by decide +kernel, by decide +kernel, by decide +kernel⟩
theorem cw_X5_goer : CWm yX5_goer cX5_goer 4 (Option.some (Jvm.ClassFile.FieldType.object "StoryColumns$Block")) 0 := ⟨q816, q74, by decide +kernel, by decide +kernel, by decide +kernel⟩
def fX5_aim_J99 (r7 : Option Nat → Option Nat → Int32 → Mp → Nat → Rs (Option Nat)) (l0 : Option Nat) (l1 : Option Nat) (l2 : Int32) (M : Mp) (z : Nat) : Rs (Option Nat) := r7 l0 l1 (l2 + 1) M z

theorem gX5_aim_J99 {G : Cx} {F : Option Value × Mp × Nat}  {r7 : Option Nat → Option Nat → Int32 → Mp → Nat → Rs (Option Nat)}(hF : FX G cX5_aim 5 RX5 (Option.some (Jvm.ClassFile.FieldType.object "StoryColumns$Story")) "aim" 4 84) (hr7 : ∀ l0 l1 l2 M z, SK G F 5 eR 7 [some (va_rf l0), some (va_rf l1), some (.int l2), none, none] [] M z (r7 l0 l1 l2 M z)) (l0 : Option Nat) (l1 : Option Nat) (l2 : Int32) (M : Mp) (z : Nat) : SK G F 5 eR 99 [some (va_rf l0), some (va_rf l1), some (.int l2), none, none] [] M z (fX5_aim_J99 r7 l0 l1 l2 M z) := by
  unfold fX5_aim_J99
  refine s_iinc (v := l2 + 1) (L9 := [some (va_rf l0), some (va_rf l1), some (.int (l2 + 1)), none, none]) (pc := 99) hF dX5_aim_99 rfl rfl (Nat.le_of_ble_eq_true rfl) rfl ?_
  refine s_goto (pc := 102) hF 7 dX5_aim_102 rfl ?_
  exact SK.sb (hr7 l0 l1 (l2 + 1) M z) ⟨rfl, ⟨rfl, ⟨rfl, trivial⟩⟩⟩

def fX5_aim_L7 : Nat → Option Nat → Option Nat → Int32 → Mp → Nat → Rs (Option Nat)
  | 0, _, _, _, _, _ => none
  | fu + 1, l0, l1, l2, M, z => (gr M l0 [5] 7).bind fun v1 =>
(gr M v1 [0] 0).bind fun v2 =>
if ckc M v2 [11] = true then
  (cb (fJ2_size v2 M z) z fun v3 M4 z5 =>
if l2 < v3 then
  (if l1 = none then
  (some (none, M4, 0, 0))
else
  ((gr M4 l0 [5] 7).bind fun v6 =>
(gr M4 v6 [0] 0).bind fun v7 =>
if ckc M4 v7 [11] = true then
  (cb (fJ2_get v7 l2 M4 z5) z5 fun v8 M9 z10 =>
if cst M9 v8 [2, 3] = true then
  ((gr M9 l1 [2, 3] 8).bind fun v11 =>
(ar M9 3 v11 (0 : Int32)).bind fun v12 =>
(gi M9 v8 [2, 3] 1).bind fun v13 =>
(gi M9 v12 [6] 0).bind fun v14 =>
if v13 = v14 then
  ((gr M9 v8 [2, 3] 8).bind fun v15 =>
(ar M9 3 v15 (1 : Int32)).bind fun v16 =>
if v16 = none then
  (fX5_aim_J99 (fX5_aim_L7 fu) l0 l1 l2 M9 z10)
else
  ((gr M9 v8 [2, 3] 8).bind fun v17 =>
(ar M9 3 v17 (1 : Int32)).bind fun v18 =>
(gi M9 l1 [2, 3] 1).bind fun v19 =>
(gi M9 v12 [6] 1).bind fun v20 =>
if ckc M9 v18 [6] = true then
  (cb (fX6_is v18 v19 v20 M9 z10) z10 fun v21 M22 z23 =>
if v21 = 0 then
  (fX5_aim_J99 (fX5_aim_L7 fu) l0 l1 l2 M22 z23)
else
  ((gr M22 v8 [2, 3] 10).bind fun v24 =>
some (v24, M22, 0, 0)))
else none))
else
  (fX5_aim_J99 (fX5_aim_L7 fu) l0 l1 l2 M9 z10))
else none)
else none))
else
  (some (none, M4, 0, 0)))
else none

theorem gX5_aim_L7 {G : Cx} {F : Option Value × Mp × Nat} (hF : FX G cX5_aim 5 RX5 (Option.some (Jvm.ClassFile.FieldType.object "StoryColumns$Story")) "aim" 4 84) : ∀ (fu : Nat) (l0 : Option Nat) (l1 : Option Nat) (l2 : Int32) (M : Mp) (z : Nat), SK G F 5 eR 7 [some (va_rf l0), some (va_rf l1), some (.int l2), none, none] [] M z (fX5_aim_L7 fu l0 l1 l2 M z) := by
  intro fu
  induction fu with
  | zero => intros; exact SK.fail
  | succ fu ih =>
    intro l0 l1 l2 M z
    rw [fX5_aim_L7]
    refine s_iload_n (pc := 7) hF dX5_aim_7 rfl rfl ?_
    refine s_aload_n (pc := 8) hF dX5_aim_8 rfl rfl ?_
    refine s_getr (pc := 9) hF (fl_X5_3 hF) dX5_aim_9 (fun v1 => ?_)
    refine s_getr (pc := 12) hF (fl_X5_99 hF) dX5_aim_12 (fun v2 => ?_)
    refine s_callF (pc := 15) (As := []) (st := [.int l2]) (stf := fun r9 => .int r9 :: [.int l2]) (x := ⟨"java/util/List", "size", "()I"⟩) hF (mJ2_size v2) cw_J2_size rfl ⟨by decide, by decide⟩ q737 q158 n_q154 n_q153 n_q159 (List.forall_mem_cons.mpr ⟨⟨(RJ2, TJ2, 3), rfl, q156, n_q157, n_q155⟩, fun _ h9 => absurd h9 List.not_mem_nil⟩) rfl ⟨Nat.le_of_ble_eq_true rfl, Nat.le_of_ble_eq_true rfl⟩ ⟨⟨rfl, trivial⟩, Nat.le_of_ble_eq_true rfl⟩ dX5_aim_15 rfl (fun _ => rfl) (fun v3 M4 z5 => ?_)
    refine s_icmp_ge (pc := 20) hF 105 dX5_aim_20 rfl ?_ ?_
    · refine s_null (pc := 105) hF dX5_aim_105 ?_
      exact s_aret (pc := 106) hF rfl (Or.inl ⟨_, rfl⟩) dX5_aim_106
    · refine s_aload_n (pc := 23) hF dX5_aim_23 rfl rfl ?_
      refine s_ifnull (pc := 24) hF 105 dX5_aim_24 rfl ?_ ?_
      · refine s_null (pc := 105) hF dX5_aim_105 ?_
        exact s_aret (pc := 106) hF rfl (Or.inl ⟨_, rfl⟩) dX5_aim_106
      · refine s_aload_n (pc := 27) hF dX5_aim_27 rfl rfl ?_
        refine s_getr (pc := 28) hF (fl_X5_3 hF) dX5_aim_28 (fun v6 => ?_)
        refine s_getr (pc := 31) hF (fl_X5_99 hF) dX5_aim_31 (fun v7 => ?_)
        refine s_iload_n (pc := 34) hF dX5_aim_34 rfl rfl ?_
        refine s_callF (pc := 35) (As := [.int l2]) (st := []) (stf := fun r9 => va_rf r9 :: []) (x := ⟨"java/util/List", "get", "(I)Ljava/lang/Object;"⟩) hF (mJ2_get v7 l2) cw_J2_get rfl ⟨by decide, by decide⟩ q739 q356 n_q353 n_q352 n_q357 (List.forall_mem_cons.mpr ⟨⟨(RJ2, TJ2, 3), rfl, q354, n_q355, n_q155⟩, fun _ h9 => absurd h9 List.not_mem_nil⟩) rfl ⟨Nat.le_of_ble_eq_true rfl, Nat.le_of_ble_eq_true rfl⟩ ⟨trivial, Nat.le_of_ble_eq_true rfl⟩ dX5_aim_35 rfl (fun _ => rfl) (fun v8 M9 z10 => ?_)
        refine s_cast (pc := 40) hF q740 (List.forall_mem_cons.mpr ⟨⟨(RX2, TX2, 13), rfl, Or.inl rfl⟩, List.forall_mem_cons.mpr ⟨⟨(RX3, TX3, 14), rfl, Or.inr n_q1359⟩, fun _ h9 => absurd h9 List.not_mem_nil⟩⟩) dX5_aim_40 ?_
        refine s_astore_n (L9 := [some (va_rf l0), some (va_rf l1), some (.int l2), some (va_rf v8), none]) (pc := 43) hF dX5_aim_43 rfl (Nat.le_of_ble_eq_true rfl) rfl ?_
        refine s_aload_n (pc := 44) hF dX5_aim_44 rfl rfl ?_
        refine s_getr (pc := 45) hF (fl_X5_106 hF) dX5_aim_45 (fun v11 => ?_)
        refine s_iconst (pc := 48) hF dX5_aim_48 (0 : Int32) (by decide) ?_
        refine s_aald (pc := 49) 3 (by decide) hF dX5_aim_49 (fun v12 => ?_)
        refine s_astore (L9 := [some (va_rf l0), some (va_rf l1), some (.int l2), some (va_rf v8), some (va_rf v12)]) (pc := 50) hF dX5_aim_50 (Nat.le_of_ble_eq_true rfl) rfl ?_
        refine s_aload_n (pc := 52) hF dX5_aim_52 rfl rfl ?_
        refine s_geti (pc := 53) hF (fl_X5_114 hF) dX5_aim_53 (fun v13 => ?_)
        refine s_aload (pc := 56) hF dX5_aim_56 rfl ?_
        refine s_geti (pc := 58) hF (fl_X5_117 hF) dX5_aim_58 (fun v14 => ?_)
        refine s_icmp_ne (pc := 61) hF 99 dX5_aim_61 rfl ?_ ?_
        · exact SK.sb (gX5_aim_J99 hF ih l0 l1 l2 M9 z10) ⟨rfl, ⟨rfl, ⟨rfl, trivial⟩⟩⟩
        · refine s_aload_n (pc := 64) hF dX5_aim_64 rfl rfl ?_
          refine s_getr (pc := 65) hF (fl_X5_106 hF) dX5_aim_65 (fun v15 => ?_)
          refine s_iconst (pc := 68) hF dX5_aim_68 (1 : Int32) (by decide) ?_
          refine s_aald (pc := 69) 3 (by decide) hF dX5_aim_69 (fun v16 => ?_)
          refine s_ifnull (pc := 70) hF 99 dX5_aim_70 rfl ?_ ?_
          · exact SK.sb (gX5_aim_J99 hF ih l0 l1 l2 M9 z10) ⟨rfl, ⟨rfl, ⟨rfl, trivial⟩⟩⟩
          · refine s_aload_n (pc := 73) hF dX5_aim_73 rfl rfl ?_
            refine s_getr (pc := 74) hF (fl_X5_106 hF) dX5_aim_74 (fun v17 => ?_)
            refine s_iconst (pc := 77) hF dX5_aim_77 (1 : Int32) (by decide) ?_
            refine s_aald (pc := 78) 3 (by decide) hF dX5_aim_78 (fun v18 => ?_)
            refine s_aload_n (pc := 79) hF dX5_aim_79 rfl rfl ?_
            refine s_geti (pc := 80) hF (fl_X5_114 hF) dX5_aim_80 (fun v19 => ?_)
            refine s_aload (pc := 83) hF dX5_aim_83 rfl ?_
            refine s_geti (pc := 85) hF (fl_X5_120 hF) dX5_aim_85 (fun v20 => ?_)
            refine s_callV (pc := 88) (As := [.int v19, .int v20]) (st := []) (stf := fun r9 => .int r9 :: []) hF (mX6_is v18 v19 v20) cw_X6_is q823 q824 (List.forall_mem_cons.mpr ⟨⟨(RX6, TX6, 2), rfl, q825⟩, fun _ h9 => absurd h9 List.not_mem_nil⟩) rfl ⟨Nat.le_of_ble_eq_true rfl, Nat.le_of_ble_eq_true rfl⟩ ⟨trivial, Nat.le_of_ble_eq_true rfl⟩ dX5_aim_88 rfl (fun _ => rfl) (fun v21 M22 z23 => ?_)
            refine s_if_eq (pc := 91) hF 99 dX5_aim_91 rfl ?_ ?_
            · exact SK.sb (gX5_aim_J99 hF ih l0 l1 l2 M22 z23) ⟨rfl, ⟨rfl, ⟨rfl, trivial⟩⟩⟩
            · refine s_aload_n (pc := 94) hF dX5_aim_94 rfl rfl ?_
              refine s_getr (pc := 95) hF (fl_X5_62 hF) dX5_aim_95 (fun v24 => ?_)
              exact s_aret (pc := 98) hF rfl (Or.inl ⟨_, rfl⟩) dX5_aim_98
def fX5_aim (a0 : Option Nat) (M : Mp) (z : Nat) : Rs (Option Nat) := if ckc M a0 [5] = true then
  (cb (fX5_goer a0 M z) z fun v1 M2 z3 =>
fX5_aim_L7 FU a0 v1 (0 : Int32) M2 z3)
else none
theorem gX5_aim {G : Cx} {F : Option Value × Mp × Nat} (hF : FX G cX5_aim 5 RX5 (Option.some (Jvm.ClassFile.FieldType.object "StoryColumns$Story")) "aim" 4 84) (a0 : Option Nat) (M : Mp) (z : Nat) : SK G F 5 eR 0 [some (va_rf a0), none, none, none, none] [] M z (fX5_aim a0 M z) := by
  unfold fX5_aim
  refine s_aload_n (pc := 0) hF dX5_aim_0 rfl rfl ?_
  refine s_callV (pc := 1) (As := []) (st := []) (stf := fun r9 => va_rf r9 :: []) hF (mX5_goer a0) cw_X5_goer q813 q814 (List.forall_mem_cons.mpr ⟨⟨(RX5, TX5, 8), rfl, q815⟩, fun _ h9 => absurd h9 List.not_mem_nil⟩) rfl ⟨Nat.le_of_ble_eq_true rfl, Nat.le_of_ble_eq_true rfl⟩ ⟨trivial, Nat.le_of_ble_eq_true rfl⟩ dX5_aim_1 rfl (fun _ => rfl) (fun v1 M2 z3 => ?_)
  refine s_astore_n (L9 := [some (va_rf a0), some (va_rf v1), none, none, none]) (pc := 4) hF dX5_aim_4 rfl (Nat.le_of_ble_eq_true rfl) rfl ?_
  refine s_iconst (pc := 5) hF dX5_aim_5 (0 : Int32) (by decide) ?_
  refine s_istore_n (L9 := [some (va_rf a0), some (va_rf v1), some (.int (0 : Int32)), none, none]) (pc := 6) hF dX5_aim_6 rfl (Nat.le_of_ble_eq_true rfl) rfl ?_
  exact SK.sb (gX5_aim_L7 hF FU a0 v1 (0 : Int32) M2 z3) ⟨rfl, ⟨rfl, ⟨rfl, trivial⟩⟩⟩
theorem mX5_aim (a0 : Option Nat) : MT yX5_aim cX5_aim 5 (Option.some (Jvm.ClassFile.FieldType.object "StoryColumns$Story")) 4 84 eR [va_rf a0] (fX5_aim a0) :=
  MT.of (L0 := [some (va_rf a0), none, none, none, none]) (by decide) ⟨ct _, trivial⟩ (Nat.le_of_ble_eq_true rfl) rfl (fun _ _ hF M z => gX5_aim hF a0 M z)

theorem fl_X0_201 {G : Cx} {nL fr lc : Nat} {cc : ByteArray} {ret : Option FieldType} {nm : String} (hF : FX G cc nL RX0 ret nm fr lc) : ∀ c ∈ [5], GF G RX0 201 c 5 := by
  obtain ⟨⟨p, l, e, R, s, m, args, below, meth, c0⟩, A, D, dA, mi⟩ := G
  obtain ⟨hx, hb, hml, hown, hts, hr, hlk, hK, hnm, hfr, hlc⟩ := hF
  exact List.forall_mem_cons.mpr ⟨⟨RX5, TX5, 8, "StoryColumns$Story", rfl, in_X5, Nat.le_of_ble_eq_true rfl, Or.inr ⟨_, (va_Nw.use rfl (hK.2.1 _ n_q707))⟩, fun _ h => h⟩, fun _ h9 => absurd h9 List.not_mem_nil⟩
theorem pl_X0_204 {G : Cx} {nL fr lc : Nat} {cc : ByteArray} {ret : Option FieldType} {nm : String} (hF : FX G cc nL RX0 ret nm fr lc) (x9 : Option Nat) : ∀ c ∈ [5], PF G RX0 nm 204 c 4 (va_rf x9) := by
  obtain ⟨⟨p, l, e, R, s, m, args, below, meth, c0⟩, A, D, dA, mi⟩ := G
  obtain ⟨hx, hb, hml, hown, hts, hr, hlk, hK, hnm, hfr, hlc⟩ := hF
  exact List.forall_mem_cons.mpr ⟨⟨RX5, TX5, 8, "StoryColumns$Story", tyX5 4, rfl, in_X5, Nat.le_of_ble_eq_true rfl, Or.inr ⟨rfl, _, (va_Nw.use rfl (hK.2.1 _ n_q706))⟩, fun _ h => h, tyX5_ok 4 (Nat.le_of_ble_eq_true rfl), by cases x9 <;> rfl, by cases x9 <;> rfl, ap_5 hts hK⟩, fun _ h9 => absurd h9 List.not_mem_nil⟩
theorem pl_X0_201 {G : Cx} {nL fr lc : Nat} {cc : ByteArray} {ret : Option FieldType} {nm : String} (hF : FX G cc nL RX0 ret nm fr lc) (x9 : Option Nat) : ∀ c ∈ [5], PF G RX0 nm 201 c 5 (va_rf x9) := by
  obtain ⟨⟨p, l, e, R, s, m, args, below, meth, c0⟩, A, D, dA, mi⟩ := G
  obtain ⟨hx, hb, hml, hown, hts, hr, hlk, hK, hnm, hfr, hlc⟩ := hF
  exact List.forall_mem_cons.mpr ⟨⟨RX5, TX5, 8, "StoryColumns$Story", tyX5 5, rfl, in_X5, Nat.le_of_ble_eq_true rfl, Or.inr ⟨rfl, _, (va_Nw.use rfl (hK.2.1 _ n_q707))⟩, fun _ h => h, tyX5_ok 5 (Nat.le_of_ble_eq_true rfl), by cases x9 <;> rfl, by cases x9 <;> rfl, ap_5 hts hK⟩, fun _ h9 => absurd h9 List.not_mem_nil⟩
theorem cw_X5_aim : CWm yX5_aim cX5_aim 5 (Option.some (Jvm.ClassFile.FieldType.object "StoryColumns$Story")) 0 := ⟨q812, q74, by decide +kernel, by decide +kernel, by decide +kernel⟩
def fX0_links_L10 : Nat → Option Nat → Mp → Nat → Rs Unit
  | 0, _, _, _ => none
  | fu + 1, l1, M, z => if ckc M l1 [12] = true then
  (cb (fJ3_hasNext l1 M z) z fun v1 M2 z3 =>
if v1 = 0 then
  (some ((), M2, 0, 0))
else
  (if ckc M2 l1 [12] = true then
  (cb (fJ3_next l1 M2 z3) z3 fun v4 M5 z6 =>
if cst M5 v4 [5] = true then
  (if ckc M5 v4 [5] = true then
  (cb (fX5_aim v4 M5 z6) z6 fun v7 M8 z9 =>
if v7 = none then
  (fX0_links_L10 fu l1 M8 z9)
else
  (if v7 = v4 then
  (fX0_links_L10 fu l1 M8 z9)
else
  ((gr M8 v7 [5] 5).bind fun v10 =>
if v10 = none then
  ((pu M8 v4 [5] 4 (va_rf v7)).bind fun M11 =>
(pu M11 v7 [5] 5 (va_rf v4)).bind fun M12 =>
fX0_links_L10 fu l1 M12 z9)
else
  (fX0_links_L10 fu l1 M8 z9))))
else none)
else none)
else none))
else none

theorem gX0_links_L10 {G : Cx} {F : Option Value × Mp × Nat} (hF : FX G cX0_links 4 RX0 (Option.none : Option Jvm.ClassFile.FieldType) "links" 5 108) : ∀ (fu : Nat) (l1 : Option Nat) (M : Mp) (z : Nat), SK G F 4 eV 10 [none, some (va_rf l1), none, none] [] M z (fX0_links_L10 fu l1 M z) := by
  intro fu
  induction fu with
  | zero => intros; exact SK.fail
  | succ fu ih =>
    intro l1 M z
    rw [fX0_links_L10]
    refine s_aload_n (pc := 10) hF dX0_links_10 rfl rfl ?_
    refine s_callF (pc := 11) (As := []) (st := []) (stf := fun r9 => .int r9 :: []) (x := ⟨"java/util/Iterator", "hasNext", "()Z"⟩) hF (mJ3_hasNext l1) cw_J3_hasNext rfl ⟨by decide, by decide⟩ q298 q325 n_q300 n_q299 n_q326 (List.forall_mem_cons.mpr ⟨⟨(RJ3, TJ3, 4), rfl, q323, n_q324, n_q322⟩, fun _ h9 => absurd h9 List.not_mem_nil⟩) rfl ⟨Nat.le_of_ble_eq_true rfl, Nat.le_of_ble_eq_true rfl⟩ ⟨trivial, Nat.le_of_ble_eq_true rfl⟩ dX0_links_11 rfl (fun _ => rfl) (fun v1 M2 z3 => ?_)
    refine s_if_eq (pc := 16) hF 63 dX0_links_16 rfl ?_ ?_
    · exact s_vret (pc := 63) hF dX0_links_63
    · refine s_aload_n (pc := 19) hF dX0_links_19 rfl rfl ?_
      refine s_callF (pc := 20) (As := []) (st := []) (stf := fun r9 => va_rf r9 :: []) (x := ⟨"java/util/Iterator", "next", "()Ljava/lang/Object;"⟩) hF (mJ3_next l1) cw_J3_next rfl ⟨by decide, by decide⟩ q381 q372 n_q331 n_q330 n_q373 (List.forall_mem_cons.mpr ⟨⟨(RJ3, TJ3, 4), rfl, q370, n_q371, n_q322⟩, fun _ h9 => absurd h9 List.not_mem_nil⟩) rfl ⟨Nat.le_of_ble_eq_true rfl, Nat.le_of_ble_eq_true rfl⟩ ⟨trivial, Nat.le_of_ble_eq_true rfl⟩ dX0_links_20 rfl (fun _ => rfl) (fun v4 M5 z6 => ?_)
      refine s_cast (pc := 25) hF q685 (List.forall_mem_cons.mpr ⟨⟨(RX5, TX5, 8), rfl, Or.inl rfl⟩, fun _ h9 => absurd h9 List.not_mem_nil⟩) dX0_links_25 ?_
      refine s_astore_n (L9 := [none, some (va_rf l1), some (va_rf v4), none]) (pc := 28) hF dX0_links_28 rfl (Nat.le_of_ble_eq_true rfl) rfl ?_
      refine s_aload_n (pc := 29) hF dX0_links_29 rfl rfl ?_
      refine s_callV (pc := 30) (As := []) (st := []) (stf := fun r9 => va_rf r9 :: []) hF (mX5_aim v4) cw_X5_aim q809 q810 (List.forall_mem_cons.mpr ⟨⟨(RX5, TX5, 8), rfl, q811⟩, fun _ h9 => absurd h9 List.not_mem_nil⟩) rfl ⟨Nat.le_of_ble_eq_true rfl, Nat.le_of_ble_eq_true rfl⟩ ⟨trivial, Nat.le_of_ble_eq_true rfl⟩ dX0_links_30 rfl (fun _ => rfl) (fun v7 M8 z9 => ?_)
      refine s_astore_n (L9 := [none, some (va_rf l1), some (va_rf v4), some (va_rf v7)]) (pc := 33) hF dX0_links_33 rfl (Nat.le_of_ble_eq_true rfl) rfl ?_
      refine s_aload_n (pc := 34) hF dX0_links_34 rfl rfl ?_
      refine s_ifnull (pc := 35) hF 60 dX0_links_35 rfl ?_ ?_
      · refine s_goto (pc := 60) hF 10 dX0_links_60 rfl ?_
        exact SK.sb (ih l1 M8 z9) ⟨rfl, trivial⟩
      · refine s_aload_n (pc := 38) hF dX0_links_38 rfl rfl ?_
        refine s_aload_n (pc := 39) hF dX0_links_39 rfl rfl ?_
        refine s_acmp_eq (pc := 40) hF 60 dX0_links_40 rfl ?_ ?_
        · refine s_goto (pc := 60) hF 10 dX0_links_60 rfl ?_
          exact SK.sb (ih l1 M8 z9) ⟨rfl, trivial⟩
        · refine s_aload_n (pc := 43) hF dX0_links_43 rfl rfl ?_
          refine s_getr (pc := 44) hF (fl_X0_201 hF) dX0_links_44 (fun v10 => ?_)
          refine s_ifnonnull (pc := 47) hF 60 dX0_links_47 rfl ?_ ?_
          · refine s_goto (pc := 60) hF 10 dX0_links_60 rfl ?_
            exact SK.sb (ih l1 M8 z9) ⟨rfl, trivial⟩
          · refine s_aload_n (pc := 50) hF dX0_links_50 rfl rfl ?_
            refine s_aload_n (pc := 51) hF dX0_links_51 rfl rfl ?_
            refine s_put (pc := 52) hF (pl_X0_204 hF _) dX0_links_52 (fun M11 => ?_)
            refine s_aload_n (pc := 55) hF dX0_links_55 rfl rfl ?_
            refine s_aload_n (pc := 56) hF dX0_links_56 rfl rfl ?_
            refine s_put (pc := 57) hF (pl_X0_201 hF _) dX0_links_57 (fun M12 => ?_)
            refine s_goto (pc := 60) hF 10 dX0_links_60 rfl ?_
            exact SK.sb (ih l1 M12 z9) ⟨rfl, trivial⟩
def fX0_links (a0 : Option Nat) (M : Mp) (z : Nat) : Rs Unit := (gr M a0 [0] 3).bind fun v1 =>
if ckc M v1 [11] = true then
  (cb (fJ2_iterator v1 M z) z fun v2 M3 z4 =>
fX0_links_L10 FU v2 M3 z4)
else none
theorem gX0_links {G : Cx} {F : Option Value × Mp × Nat} (hF : FX G cX0_links 4 RX0 (Option.none : Option Jvm.ClassFile.FieldType) "links" 5 108) (a0 : Option Nat) (M : Mp) (z : Nat) : SK G F 4 eV 0 [some (va_rf a0), none, none, none] [] M z (fX0_links a0 M z) := by
  unfold fX0_links
  refine s_aload_n (pc := 0) hF dX0_links_0 rfl rfl ?_
  refine s_getr (pc := 1) hF (fl_X0_21 hF) dX0_links_1 (fun v1 => ?_)
  refine s_callF (pc := 4) (As := []) (st := []) (stf := fun r9 => va_rf r9 :: []) (x := ⟨"java/util/List", "iterator", "()Ljava/util/Iterator;"⟩) hF (mJ2_iterator v1) cw_J2_iterator rfl ⟨by decide, by decide⟩ q270 q275 n_q272 n_q271 n_q276 (List.forall_mem_cons.mpr ⟨⟨(RJ2, TJ2, 3), rfl, q273, n_q274, n_q155⟩, fun _ h9 => absurd h9 List.not_mem_nil⟩) rfl ⟨Nat.le_of_ble_eq_true rfl, Nat.le_of_ble_eq_true rfl⟩ ⟨trivial, Nat.le_of_ble_eq_true rfl⟩ dX0_links_4 rfl (fun _ => rfl) (fun v2 M3 z4 => ?_)
  refine s_astore_n (L9 := [some (va_rf a0), some (va_rf v2), none, none]) (pc := 9) hF dX0_links_9 rfl (Nat.le_of_ble_eq_true rfl) rfl ?_
  exact SK.sb (gX0_links_L10 hF FU v2 M3 z4) ⟨rfl, trivial⟩
theorem mX0_links (a0 : Option Nat) : MT yX0_links cX0_links 4 (Option.none : Option Jvm.ClassFile.FieldType) 5 108 eV [va_rf a0] (fX0_links a0) :=
  MT.of (L0 := [some (va_rf a0), none, none, none]) (by decide) ⟨ct _, trivial⟩ (Nat.le_of_ble_eq_true rfl) rfl (fun _ _ hF M z => gX0_links hF a0 M z)

theorem fl_X0_24 {G : Cx} {nL fr lc : Nat} {cc : ByteArray} {ret : Option FieldType} {nm : String} (hF : FX G cc nL RX0 ret nm fr lc) : ∀ c ∈ [0], GF G RX0 24 c 4 := by
  obtain ⟨⟨p, l, e, R, s, m, args, below, meth, c0⟩, A, D, dA, mi⟩ := G
  obtain ⟨hx, hb, hml, hown, hts, hr, hlk, hK, hnm, hfr, hlc⟩ := hF
  exact List.forall_mem_cons.mpr ⟨⟨RX0, TX0, 6, "StoryColumns", rfl, in_X0, Nat.le_of_ble_eq_true rfl, Or.inl (hts _ q126), fun _ h => h⟩, fun _ h9 => absurd h9 List.not_mem_nil⟩
theorem pl_X0_206 {G : Cx} {nL fr lc : Nat} {cc : ByteArray} {ret : Option FieldType} {nm : String} (hF : FX G cc nL RX0 ret nm fr lc) (x9 : Int32) : ∀ c ∈ [5], PF G RX0 nm 206 c 6 (.int x9) := by
  obtain ⟨⟨p, l, e, R, s, m, args, below, meth, c0⟩, A, D, dA, mi⟩ := G
  obtain ⟨hx, hb, hml, hown, hts, hr, hlk, hK, hnm, hfr, hlc⟩ := hF
  exact List.forall_mem_cons.mpr ⟨⟨RX5, TX5, 8, "StoryColumns$Story", tyX5 6, rfl, in_X5, Nat.le_of_ble_eq_true rfl, Or.inr ⟨rfl, _, (va_Nw.use rfl (hK.2.1 _ n_q708))⟩, fun _ h => h, tyX5_ok 6 (Nat.le_of_ble_eq_true rfl), rfl, rfl, ap_5 hts hK⟩, fun _ h9 => absurd h9 List.not_mem_nil⟩
theorem fl_X0_204 {G : Cx} {nL fr lc : Nat} {cc : ByteArray} {ret : Option FieldType} {nm : String} (hF : FX G cc nL RX0 ret nm fr lc) : ∀ c ∈ [5], GF G RX0 204 c 4 := by
  obtain ⟨⟨p, l, e, R, s, m, args, below, meth, c0⟩, A, D, dA, mi⟩ := G
  obtain ⟨hx, hb, hml, hown, hts, hr, hlk, hK, hnm, hfr, hlc⟩ := hF
  exact List.forall_mem_cons.mpr ⟨⟨RX5, TX5, 8, "StoryColumns$Story", rfl, in_X5, Nat.le_of_ble_eq_true rfl, Or.inr ⟨_, (va_Nw.use rfl (hK.2.1 _ n_q706))⟩, fun _ h => h⟩, fun _ h9 => absurd h9 List.not_mem_nil⟩
def fX0_follows_L23 : Nat → Option Nat → Option Nat → Int32 → Mp → Nat → Rs Unit
  | 0, _, _, _, _, _ => none
  | fu + 1, l1, l2, l3, M, z => (pu M l2 [5] 6 (.int l3)).bind fun M1 =>
(gr M1 l2 [5] 4).bind fun v2 =>
if v2 = none then
  (some ((), M1, 0, 0))
else
  (if v2 = l1 then
  (some ((), M1, 0, 0))
else
  (fX0_follows_L23 fu l1 v2 l3 M1 z))

theorem gX0_follows_L23 {G : Cx} {F : Option Value × Mp × Nat} (hF : FX G cX0_follows 4 RX0 (Option.none : Option Jvm.ClassFile.FieldType) "follows" 11 308) : ∀ (fu : Nat) (l1 : Option Nat) (l2 : Option Nat) (l3 : Int32) (M : Mp) (z : Nat), SK G F 4 eV 23 [none, some (va_rf l1), some (va_rf l2), some (.int l3)] [] M z (fX0_follows_L23 fu l1 l2 l3 M z) := by
  intro fu
  induction fu with
  | zero => intros; exact SK.fail
  | succ fu ih =>
    intro l1 l2 l3 M z
    rw [fX0_follows_L23]
    refine s_aload_n (pc := 23) hF dX0_follows_23 rfl rfl ?_
    refine s_iload_n (pc := 24) hF dX0_follows_24 rfl rfl ?_
    refine s_put (pc := 25) hF (pl_X0_206 hF _) dX0_follows_25 (fun M1 => ?_)
    refine s_aload_n (pc := 28) hF dX0_follows_28 rfl rfl ?_
    refine s_getr (pc := 29) hF (fl_X0_204 hF) dX0_follows_29 (fun v2 => ?_)
    refine s_astore_n (L9 := [none, some (va_rf l1), some (va_rf v2), some (.int l3)]) (pc := 32) hF dX0_follows_32 rfl (Nat.le_of_ble_eq_true rfl) rfl ?_
    refine s_aload_n (pc := 33) hF dX0_follows_33 rfl rfl ?_
    refine s_ifnull (pc := 34) hF 42 dX0_follows_34 rfl ?_ ?_
    · exact s_vret (pc := 42) hF dX0_follows_42
    · refine s_aload_n (pc := 37) hF dX0_follows_37 rfl rfl ?_
      refine s_aload_n (pc := 38) hF dX0_follows_38 rfl rfl ?_
      refine s_acmp_ne (pc := 39) hF 23 dX0_follows_39 rfl ?_ ?_
      · exact SK.sb (ih l1 v2 l3 M1 z) ⟨rfl, ⟨rfl, ⟨rfl, trivial⟩⟩⟩
      · exact s_vret (pc := 42) hF dX0_follows_42
def fX0_follows (a0 : Option Nat) (a1 : Option Nat) (M : Mp) (z : Nat) : Rs Unit := (gr M a0 [0] 4).bind fun v1 =>
if ckc M v1 [11] = true then
  (cb (fJ2_size v1 M z) z fun v2 M3 z4 =>
(gr M3 a0 [0] 4).bind fun v5 =>
if ckc M3 v5 [11] = true then
  (cb (fJ2_add v5 a1 M3 z4) z4 fun v6 M7 z8 =>
fX0_follows_L23 FU a1 a1 v2 M7 z8)
else none)
else none
theorem gX0_follows {G : Cx} {F : Option Value × Mp × Nat} (hF : FX G cX0_follows 4 RX0 (Option.none : Option Jvm.ClassFile.FieldType) "follows" 11 308) (a0 : Option Nat) (a1 : Option Nat) (M : Mp) (z : Nat) : SK G F 4 eV 0 [some (va_rf a0), some (va_rf a1), none, none] [] M z (fX0_follows a0 a1 M z) := by
  unfold fX0_follows
  refine s_aload_n (pc := 0) hF dX0_follows_0 rfl rfl ?_
  refine s_astore_n (L9 := [some (va_rf a0), some (va_rf a1), some (va_rf a1), none]) (pc := 1) hF dX0_follows_1 rfl (Nat.le_of_ble_eq_true rfl) rfl ?_
  refine s_aload_n (pc := 2) hF dX0_follows_2 rfl rfl ?_
  refine s_getr (pc := 3) hF (fl_X0_24 hF) dX0_follows_3 (fun v1 => ?_)
  refine s_callF (pc := 6) (As := []) (st := []) (stf := fun r9 => .int r9 :: []) (x := ⟨"java/util/List", "size", "()I"⟩) hF (mJ2_size v1) cw_J2_size rfl ⟨by decide, by decide⟩ q152 q158 n_q154 n_q153 n_q159 (List.forall_mem_cons.mpr ⟨⟨(RJ2, TJ2, 3), rfl, q156, n_q157, n_q155⟩, fun _ h9 => absurd h9 List.not_mem_nil⟩) rfl ⟨Nat.le_of_ble_eq_true rfl, Nat.le_of_ble_eq_true rfl⟩ ⟨trivial, Nat.le_of_ble_eq_true rfl⟩ dX0_follows_6 rfl (fun _ => rfl) (fun v2 M3 z4 => ?_)
  refine s_istore_n (L9 := [some (va_rf a0), some (va_rf a1), some (va_rf a1), some (.int v2)]) (pc := 11) hF dX0_follows_11 rfl (Nat.le_of_ble_eq_true rfl) rfl ?_
  refine s_aload_n (pc := 12) hF dX0_follows_12 rfl rfl ?_
  refine s_getr (pc := 13) hF (fl_X0_24 hF) dX0_follows_13 (fun v5 => ?_)
  refine s_aload_n (pc := 16) hF dX0_follows_16 rfl rfl ?_
  refine s_callF (pc := 17) (As := [va_rf a1]) (st := []) (stf := fun r9 => .int r9 :: []) (x := ⟨"java/util/List", "add", "(Ljava/lang/Object;)Z"⟩) hF (mJ2_add v5 a1) cw_J2_add rfl ⟨by decide, by decide⟩ q446 q451 n_q448 n_q447 n_q452 (List.forall_mem_cons.mpr ⟨⟨(RJ2, TJ2, 3), rfl, q449, n_q450, n_q155⟩, fun _ h9 => absurd h9 List.not_mem_nil⟩) rfl ⟨Nat.le_of_ble_eq_true rfl, Nat.le_of_ble_eq_true rfl⟩ ⟨trivial, Nat.le_of_ble_eq_true rfl⟩ dX0_follows_17 rfl (fun _ => rfl) (fun v6 M7 z8 => ?_)
  refine s_pop (pc := 22) hF dX0_follows_22 rfl ?_
  exact SK.sb (gX0_follows_L23 hF FU a1 a1 v2 M7 z8) ⟨rfl, ⟨rfl, ⟨rfl, trivial⟩⟩⟩
theorem mX0_follows (a0 : Option Nat) (a1 : Option Nat) : MT yX0_follows cX0_follows 4 (Option.none : Option Jvm.ClassFile.FieldType) 11 308 eV [va_rf a0, va_rf a1] (fX0_follows a0 a1) :=
  MT.of (L0 := [some (va_rf a0), some (va_rf a1), none, none]) (by decide) ⟨ct _, ⟨ct _, trivial⟩⟩ (Nat.le_of_ble_eq_true rfl) rfl (fun _ _ hF M z => gX0_follows hF a0 a1 M z)

theorem pl_X0_213 {G : Cx} {nL fr lc : Nat} {cc : ByteArray} {ret : Option FieldType} {nm : String} (hF : FX G cc nL RX0 ret nm fr lc) (x9 : Int32) : ∀ c ∈ [0], PF G RX0 nm 213 c 5 (.int x9) := by
  obtain ⟨⟨p, l, e, R, s, m, args, below, meth, c0⟩, A, D, dA, mi⟩ := G
  obtain ⟨hx, hb, hml, hown, hts, hr, hlk, hK, hnm, hfr, hlc⟩ := hF
  exact List.forall_mem_cons.mpr ⟨⟨RX0, TX0, 6, "StoryColumns", tyX0 5, rfl, in_X0, Nat.le_of_ble_eq_true rfl, Or.inl ⟨(hts _ q127), Or.inl rfl⟩, fun _ h => h, tyX0_ok 5 (Nat.le_of_ble_eq_true rfl), rfl, rfl, ap_0 hts hK⟩, fun _ h9 => absurd h9 List.not_mem_nil⟩
theorem fl_X0_206 {G : Cx} {nL fr lc : Nat} {cc : ByteArray} {ret : Option FieldType} {nm : String} (hF : FX G cc nL RX0 ret nm fr lc) : ∀ c ∈ [5], GF G RX0 206 c 6 := by
  obtain ⟨⟨p, l, e, R, s, m, args, below, meth, c0⟩, A, D, dA, mi⟩ := G
  obtain ⟨hx, hb, hml, hown, hts, hr, hlk, hK, hnm, hfr, hlc⟩ := hF
  exact List.forall_mem_cons.mpr ⟨⟨RX5, TX5, 8, "StoryColumns$Story", rfl, in_X5, Nat.le_of_ble_eq_true rfl, Or.inr ⟨_, (va_Nw.use rfl (hK.2.1 _ n_q708))⟩, fun _ h => h⟩, fun _ h9 => absurd h9 List.not_mem_nil⟩
theorem cw_X0_follows : CWm yX0_follows cX0_follows 4 (Option.none : Option Jvm.ClassFile.FieldType) 1 := ⟨q834, q59, by decide +kernel, by decide +kernel, by decide +kernel⟩
def fX0_laysArticles_L114 : Nat → Option Nat → Option Nat → Mp → Nat → Rs Unit
  | 0, _, _, _, _ => none
  | fu + 1, l0, l1, M, z => if ckc M l1 [12] = true then
  (cb (fJ3_hasNext l1 M z) z fun v1 M2 z3 =>
if v1 = 0 then
  (some ((), M2, 0, 0))
else
  (if ckc M2 l1 [12] = true then
  (cb (fJ3_next l1 M2 z3) z3 fun v4 M5 z6 =>
if cst M5 v4 [5] = true then
  ((gi M5 v4 [5] 6).bind fun v7 =>
if v7 = (-9 : Int32) then
  (if ckc M5 l0 [0] = true then
  (cb (fX0_follows l0 v4 M5 z6) z6 fun _ M9 z10 =>
fX0_laysArticles_L114 fu l0 l1 M9 z10)
else none)
else
  (fX0_laysArticles_L114 fu l0 l1 M5 z6))
else none)
else none))
else none

theorem gX0_laysArticles_L114 {G : Cx} {F : Option Value × Mp × Nat} (hF : FX G cX0_laysArticles 3 RX0 (Option.none : Option Jvm.ClassFile.FieldType) "laysArticles" 12 331) : ∀ (fu : Nat) (l0 : Option Nat) (l1 : Option Nat) (M : Mp) (z : Nat), SK G F 3 eV 114 [some (va_rf l0), some (va_rf l1), none] [] M z (fX0_laysArticles_L114 fu l0 l1 M z) := by
  intro fu
  induction fu with
  | zero => intros; exact SK.fail
  | succ fu ih =>
    intro l0 l1 M z
    rw [fX0_laysArticles_L114]
    refine s_aload_n (pc := 114) hF dX0_laysArticles_114 rfl rfl ?_
    refine s_callF (pc := 115) (As := []) (st := []) (stf := fun r9 => .int r9 :: []) (x := ⟨"java/util/Iterator", "hasNext", "()Z"⟩) hF (mJ3_hasNext l1) cw_J3_hasNext rfl ⟨by decide, by decide⟩ q298 q325 n_q300 n_q299 n_q326 (List.forall_mem_cons.mpr ⟨⟨(RJ3, TJ3, 4), rfl, q323, n_q324, n_q322⟩, fun _ h9 => absurd h9 List.not_mem_nil⟩) rfl ⟨Nat.le_of_ble_eq_true rfl, Nat.le_of_ble_eq_true rfl⟩ ⟨trivial, Nat.le_of_ble_eq_true rfl⟩ dX0_laysArticles_115 rfl (fun _ => rfl) (fun v1 M2 z3 => ?_)
    refine s_if_eq (pc := 120) hF 150 dX0_laysArticles_120 rfl ?_ ?_
    · exact s_vret (pc := 150) hF dX0_laysArticles_150
    · refine s_aload_n (pc := 123) hF dX0_laysArticles_123 rfl rfl ?_
      refine s_callF (pc := 124) (As := []) (st := []) (stf := fun r9 => va_rf r9 :: []) (x := ⟨"java/util/Iterator", "next", "()Ljava/lang/Object;"⟩) hF (mJ3_next l1) cw_J3_next rfl ⟨by decide, by decide⟩ q381 q372 n_q331 n_q330 n_q373 (List.forall_mem_cons.mpr ⟨⟨(RJ3, TJ3, 4), rfl, q370, n_q371, n_q322⟩, fun _ h9 => absurd h9 List.not_mem_nil⟩) rfl ⟨Nat.le_of_ble_eq_true rfl, Nat.le_of_ble_eq_true rfl⟩ ⟨trivial, Nat.le_of_ble_eq_true rfl⟩ dX0_laysArticles_124 rfl (fun _ => rfl) (fun v4 M5 z6 => ?_)
      refine s_cast (pc := 129) hF q685 (List.forall_mem_cons.mpr ⟨⟨(RX5, TX5, 8), rfl, Or.inl rfl⟩, fun _ h9 => absurd h9 List.not_mem_nil⟩) dX0_laysArticles_129 ?_
      refine s_astore_n (L9 := [some (va_rf l0), some (va_rf l1), some (va_rf v4)]) (pc := 132) hF dX0_laysArticles_132 rfl (Nat.le_of_ble_eq_true rfl) rfl ?_
      refine s_aload_n (pc := 133) hF dX0_laysArticles_133 rfl rfl ?_
      refine s_geti (pc := 134) hF (fl_X0_206 hF) dX0_laysArticles_134 (fun v7 => ?_)
      refine s_bipush (pc := 137) hF dX0_laysArticles_137 (-9 : Int32) (by decide) ?_
      refine s_icmp_ne (pc := 139) hF 147 dX0_laysArticles_139 rfl ?_ ?_
      · refine s_goto (pc := 147) hF 114 dX0_laysArticles_147 rfl ?_
        exact SK.sb (ih l0 l1 M5 z6) ⟨rfl, ⟨rfl, trivial⟩⟩
      · refine s_aload_n (pc := 142) hF dX0_laysArticles_142 rfl rfl ?_
        refine s_aload_n (pc := 143) hF dX0_laysArticles_143 rfl rfl ?_
        refine s_callV (pc := 144) (As := [va_rf v4]) (st := []) (stf := fun r9 => []) hF (mX0_follows l0 v4) cw_X0_follows q831 q833 (List.forall_mem_cons.mpr ⟨⟨(RX0, TX0, 6), rfl, qs17⟩, fun _ h9 => absurd h9 List.not_mem_nil⟩) rfl ⟨Nat.le_of_ble_eq_true rfl, Nat.le_of_ble_eq_true rfl⟩ ⟨trivial, Nat.le_of_ble_eq_true rfl⟩ dX0_laysArticles_144 rfl (fun _ => rfl) (fun v8 M9 z10 => ?_)
        refine s_goto (pc := 147) hF 114 dX0_laysArticles_147 rfl ?_
        exact SK.sb (ih l0 l1 M9 z10) ⟨rfl, ⟨rfl, trivial⟩⟩

def fX0_laysArticles_L57 : Nat → Option Nat → Option Nat → Mp → Nat → Rs Unit
  | 0, _, _, _, _ => none
  | fu + 1, l0, l1, M, z => if ckc M l1 [12] = true then
  (cb (fJ3_hasNext l1 M z) z fun v1 M2 z3 =>
if v1 = 0 then
  ((gr M2 l0 [0] 4).bind fun v4 =>
if ckc M2 v4 [11] = true then
  (cb (fJ2_size v4 M2 z3) z3 fun v5 M6 z7 =>
(pu M6 l0 [0] 5 (.int v5)).bind fun M8 =>
(gr M8 l0 [0] 3).bind fun v9 =>
if ckc M8 v9 [11] = true then
  (cb (fJ2_iterator v9 M8 z7) z7 fun v10 M11 z12 =>
fX0_laysArticles_L114 FU l0 v10 M11 z12)
else none)
else none)
else
  (if ckc M2 l1 [12] = true then
  (cb (fJ3_next l1 M2 z3) z3 fun v13 M14 z15 =>
if cst M14 v13 [5] = true then
  ((gr M14 v13 [5] 5).bind fun v16 =>
if v16 = none then
  (if ckc M14 l0 [0] = true then
  (cb (fX0_follows l0 v13 M14 z15) z15 fun _ M18 z19 =>
fX0_laysArticles_L57 fu l0 l1 M18 z19)
else none)
else
  (fX0_laysArticles_L57 fu l0 l1 M14 z15))
else none)
else none))
else none

theorem gX0_laysArticles_L57 {G : Cx} {F : Option Value × Mp × Nat} (hF : FX G cX0_laysArticles 3 RX0 (Option.none : Option Jvm.ClassFile.FieldType) "laysArticles" 12 331) : ∀ (fu : Nat) (l0 : Option Nat) (l1 : Option Nat) (M : Mp) (z : Nat), SK G F 3 eV 57 [some (va_rf l0), some (va_rf l1), none] [] M z (fX0_laysArticles_L57 fu l0 l1 M z) := by
  intro fu
  induction fu with
  | zero => intros; exact SK.fail
  | succ fu ih =>
    intro l0 l1 M z
    rw [fX0_laysArticles_L57]
    refine s_aload_n (pc := 57) hF dX0_laysArticles_57 rfl rfl ?_
    refine s_callF (pc := 58) (As := []) (st := []) (stf := fun r9 => .int r9 :: []) (x := ⟨"java/util/Iterator", "hasNext", "()Z"⟩) hF (mJ3_hasNext l1) cw_J3_hasNext rfl ⟨by decide, by decide⟩ q298 q325 n_q300 n_q299 n_q326 (List.forall_mem_cons.mpr ⟨⟨(RJ3, TJ3, 4), rfl, q323, n_q324, n_q322⟩, fun _ h9 => absurd h9 List.not_mem_nil⟩) rfl ⟨Nat.le_of_ble_eq_true rfl, Nat.le_of_ble_eq_true rfl⟩ ⟨trivial, Nat.le_of_ble_eq_true rfl⟩ dX0_laysArticles_58 rfl (fun _ => rfl) (fun v1 M2 z3 => ?_)
    refine s_if_eq (pc := 63) hF 91 dX0_laysArticles_63 rfl ?_ ?_
    · refine s_aload_n (pc := 91) hF dX0_laysArticles_91 rfl rfl ?_
      refine s_aload_n (pc := 92) hF dX0_laysArticles_92 rfl rfl ?_
      refine s_getr (pc := 93) hF (fl_X0_24 hF) dX0_laysArticles_93 (fun v4 => ?_)
      refine s_callF (pc := 96) (As := []) (st := [va_rf l0]) (stf := fun r9 => .int r9 :: [va_rf l0]) (x := ⟨"java/util/List", "size", "()I"⟩) hF (mJ2_size v4) cw_J2_size rfl ⟨by decide, by decide⟩ q152 q158 n_q154 n_q153 n_q159 (List.forall_mem_cons.mpr ⟨⟨(RJ2, TJ2, 3), rfl, q156, n_q157, n_q155⟩, fun _ h9 => absurd h9 List.not_mem_nil⟩) rfl ⟨Nat.le_of_ble_eq_true rfl, Nat.le_of_ble_eq_true rfl⟩ ⟨⟨ct _, trivial⟩, Nat.le_of_ble_eq_true rfl⟩ dX0_laysArticles_96 rfl (fun _ => rfl) (fun v5 M6 z7 => ?_)
      refine s_put (pc := 101) hF (pl_X0_213 hF _) dX0_laysArticles_101 (fun M8 => ?_)
      refine s_aload_n (pc := 104) hF dX0_laysArticles_104 rfl rfl ?_
      refine s_getr (pc := 105) hF (fl_X0_21 hF) dX0_laysArticles_105 (fun v9 => ?_)
      refine s_callF (pc := 108) (As := []) (st := []) (stf := fun r9 => va_rf r9 :: []) (x := ⟨"java/util/List", "iterator", "()Ljava/util/Iterator;"⟩) hF (mJ2_iterator v9) cw_J2_iterator rfl ⟨by decide, by decide⟩ q270 q275 n_q272 n_q271 n_q276 (List.forall_mem_cons.mpr ⟨⟨(RJ2, TJ2, 3), rfl, q273, n_q274, n_q155⟩, fun _ h9 => absurd h9 List.not_mem_nil⟩) rfl ⟨Nat.le_of_ble_eq_true rfl, Nat.le_of_ble_eq_true rfl⟩ ⟨trivial, Nat.le_of_ble_eq_true rfl⟩ dX0_laysArticles_108 rfl (fun _ => rfl) (fun v10 M11 z12 => ?_)
      refine s_astore_n (L9 := [some (va_rf l0), some (va_rf v10), none]) (pc := 113) hF dX0_laysArticles_113 rfl (Nat.le_of_ble_eq_true rfl) rfl ?_
      exact SK.sb (gX0_laysArticles_L114 hF FU l0 v10 M11 z12) ⟨rfl, ⟨rfl, trivial⟩⟩
    · refine s_aload_n (pc := 66) hF dX0_laysArticles_66 rfl rfl ?_
      refine s_callF (pc := 67) (As := []) (st := []) (stf := fun r9 => va_rf r9 :: []) (x := ⟨"java/util/Iterator", "next", "()Ljava/lang/Object;"⟩) hF (mJ3_next l1) cw_J3_next rfl ⟨by decide, by decide⟩ q381 q372 n_q331 n_q330 n_q373 (List.forall_mem_cons.mpr ⟨⟨(RJ3, TJ3, 4), rfl, q370, n_q371, n_q322⟩, fun _ h9 => absurd h9 List.not_mem_nil⟩) rfl ⟨Nat.le_of_ble_eq_true rfl, Nat.le_of_ble_eq_true rfl⟩ ⟨trivial, Nat.le_of_ble_eq_true rfl⟩ dX0_laysArticles_67 rfl (fun _ => rfl) (fun v13 M14 z15 => ?_)
      refine s_cast (pc := 72) hF q685 (List.forall_mem_cons.mpr ⟨⟨(RX5, TX5, 8), rfl, Or.inl rfl⟩, fun _ h9 => absurd h9 List.not_mem_nil⟩) dX0_laysArticles_72 ?_
      refine s_astore_n (L9 := [some (va_rf l0), some (va_rf l1), some (va_rf v13)]) (pc := 75) hF dX0_laysArticles_75 rfl (Nat.le_of_ble_eq_true rfl) rfl ?_
      refine s_aload_n (pc := 76) hF dX0_laysArticles_76 rfl rfl ?_
      refine s_getr (pc := 77) hF (fl_X0_201 hF) dX0_laysArticles_77 (fun v16 => ?_)
      refine s_ifnonnull (pc := 80) hF 88 dX0_laysArticles_80 rfl ?_ ?_
      · refine s_goto (pc := 88) hF 57 dX0_laysArticles_88 rfl ?_
        exact SK.sb (ih l0 l1 M14 z15) ⟨rfl, ⟨rfl, trivial⟩⟩
      · refine s_aload_n (pc := 83) hF dX0_laysArticles_83 rfl rfl ?_
        refine s_aload_n (pc := 84) hF dX0_laysArticles_84 rfl rfl ?_
        refine s_callV (pc := 85) (As := [va_rf v13]) (st := []) (stf := fun r9 => []) hF (mX0_follows l0 v13) cw_X0_follows q831 q833 (List.forall_mem_cons.mpr ⟨⟨(RX0, TX0, 6), rfl, qs17⟩, fun _ h9 => absurd h9 List.not_mem_nil⟩) rfl ⟨Nat.le_of_ble_eq_true rfl, Nat.le_of_ble_eq_true rfl⟩ ⟨trivial, Nat.le_of_ble_eq_true rfl⟩ dX0_laysArticles_85 rfl (fun _ => rfl) (fun v17 M18 z19 => ?_)
        refine s_goto (pc := 88) hF 57 dX0_laysArticles_88 rfl ?_
        exact SK.sb (ih l0 l1 M18 z19) ⟨rfl, ⟨rfl, trivial⟩⟩

def fX0_laysArticles_L19 : Nat → Option Nat → Option Nat → Mp → Nat → Rs Unit
  | 0, _, _, _, _ => none
  | fu + 1, l0, l1, M, z => if ckc M l1 [12] = true then
  (cb (fJ3_hasNext l1 M z) z fun v1 M2 z3 =>
if v1 = 0 then
  ((gr M2 l0 [0] 3).bind fun v4 =>
if ckc M2 v4 [11] = true then
  (cb (fJ2_iterator v4 M2 z3) z3 fun v5 M6 z7 =>
fX0_laysArticles_L57 FU l0 v5 M6 z7)
else none)
else
  (if ckc M2 l1 [12] = true then
  (cb (fJ3_next l1 M2 z3) z3 fun v8 M9 z10 =>
if cst M9 v8 [5] = true then
  ((pu M9 v8 [5] 6 (.int (-9 : Int32))).bind fun M11 =>
fX0_laysArticles_L19 fu l0 l1 M11 z10)
else none)
else none))
else none

theorem gX0_laysArticles_L19 {G : Cx} {F : Option Value × Mp × Nat} (hF : FX G cX0_laysArticles 3 RX0 (Option.none : Option Jvm.ClassFile.FieldType) "laysArticles" 12 331) : ∀ (fu : Nat) (l0 : Option Nat) (l1 : Option Nat) (M : Mp) (z : Nat), SK G F 3 eV 19 [some (va_rf l0), some (va_rf l1), none] [] M z (fX0_laysArticles_L19 fu l0 l1 M z) := by
  intro fu
  induction fu with
  | zero => intros; exact SK.fail
  | succ fu ih =>
    intro l0 l1 M z
    rw [fX0_laysArticles_L19]
    refine s_aload_n (pc := 19) hF dX0_laysArticles_19 rfl rfl ?_
    refine s_callF (pc := 20) (As := []) (st := []) (stf := fun r9 => .int r9 :: []) (x := ⟨"java/util/Iterator", "hasNext", "()Z"⟩) hF (mJ3_hasNext l1) cw_J3_hasNext rfl ⟨by decide, by decide⟩ q298 q325 n_q300 n_q299 n_q326 (List.forall_mem_cons.mpr ⟨⟨(RJ3, TJ3, 4), rfl, q323, n_q324, n_q322⟩, fun _ h9 => absurd h9 List.not_mem_nil⟩) rfl ⟨Nat.le_of_ble_eq_true rfl, Nat.le_of_ble_eq_true rfl⟩ ⟨trivial, Nat.le_of_ble_eq_true rfl⟩ dX0_laysArticles_20 rfl (fun _ => rfl) (fun v1 M2 z3 => ?_)
    refine s_if_eq (pc := 25) hF 47 dX0_laysArticles_25 rfl ?_ ?_
    · refine s_aload_n (pc := 47) hF dX0_laysArticles_47 rfl rfl ?_
      refine s_getr (pc := 48) hF (fl_X0_21 hF) dX0_laysArticles_48 (fun v4 => ?_)
      refine s_callF (pc := 51) (As := []) (st := []) (stf := fun r9 => va_rf r9 :: []) (x := ⟨"java/util/List", "iterator", "()Ljava/util/Iterator;"⟩) hF (mJ2_iterator v4) cw_J2_iterator rfl ⟨by decide, by decide⟩ q270 q275 n_q272 n_q271 n_q276 (List.forall_mem_cons.mpr ⟨⟨(RJ2, TJ2, 3), rfl, q273, n_q274, n_q155⟩, fun _ h9 => absurd h9 List.not_mem_nil⟩) rfl ⟨Nat.le_of_ble_eq_true rfl, Nat.le_of_ble_eq_true rfl⟩ ⟨trivial, Nat.le_of_ble_eq_true rfl⟩ dX0_laysArticles_51 rfl (fun _ => rfl) (fun v5 M6 z7 => ?_)
      refine s_astore_n (L9 := [some (va_rf l0), some (va_rf v5), none]) (pc := 56) hF dX0_laysArticles_56 rfl (Nat.le_of_ble_eq_true rfl) rfl ?_
      exact SK.sb (gX0_laysArticles_L57 hF FU l0 v5 M6 z7) ⟨rfl, ⟨rfl, trivial⟩⟩
    · refine s_aload_n (pc := 28) hF dX0_laysArticles_28 rfl rfl ?_
      refine s_callF (pc := 29) (As := []) (st := []) (stf := fun r9 => va_rf r9 :: []) (x := ⟨"java/util/Iterator", "next", "()Ljava/lang/Object;"⟩) hF (mJ3_next l1) cw_J3_next rfl ⟨by decide, by decide⟩ q381 q372 n_q331 n_q330 n_q373 (List.forall_mem_cons.mpr ⟨⟨(RJ3, TJ3, 4), rfl, q370, n_q371, n_q322⟩, fun _ h9 => absurd h9 List.not_mem_nil⟩) rfl ⟨Nat.le_of_ble_eq_true rfl, Nat.le_of_ble_eq_true rfl⟩ ⟨trivial, Nat.le_of_ble_eq_true rfl⟩ dX0_laysArticles_29 rfl (fun _ => rfl) (fun v8 M9 z10 => ?_)
      refine s_cast (pc := 34) hF q685 (List.forall_mem_cons.mpr ⟨⟨(RX5, TX5, 8), rfl, Or.inl rfl⟩, fun _ h9 => absurd h9 List.not_mem_nil⟩) dX0_laysArticles_34 ?_
      refine s_astore_n (L9 := [some (va_rf l0), some (va_rf l1), some (va_rf v8)]) (pc := 37) hF dX0_laysArticles_37 rfl (Nat.le_of_ble_eq_true rfl) rfl ?_
      refine s_aload_n (pc := 38) hF dX0_laysArticles_38 rfl rfl ?_
      refine s_bipush (pc := 39) hF dX0_laysArticles_39 (-9 : Int32) (by decide) ?_
      refine s_put (pc := 41) hF (pl_X0_206 hF _) dX0_laysArticles_41 (fun M11 => ?_)
      refine s_goto (pc := 44) hF 19 dX0_laysArticles_44 rfl ?_
      exact SK.sb (ih l0 l1 M11 z10) ⟨rfl, ⟨rfl, trivial⟩⟩
def fX0_laysArticles (a0 : Option Nat) (M : Mp) (z : Nat) : Rs Unit := (gr M a0 [0] 4).bind fun v1 =>
if ckc M v1 [11] = true then
  (cb (fJ2_clear v1 M z) z fun _ M3 z4 =>
(gr M3 a0 [0] 3).bind fun v5 =>
if ckc M3 v5 [11] = true then
  (cb (fJ2_iterator v5 M3 z4) z4 fun v6 M7 z8 =>
fX0_laysArticles_L19 FU a0 v6 M7 z8)
else none)
else none
theorem gX0_laysArticles {G : Cx} {F : Option Value × Mp × Nat} (hF : FX G cX0_laysArticles 3 RX0 (Option.none : Option Jvm.ClassFile.FieldType) "laysArticles" 12 331) (a0 : Option Nat) (M : Mp) (z : Nat) : SK G F 3 eV 0 [some (va_rf a0), none, none] [] M z (fX0_laysArticles a0 M z) := by
  unfold fX0_laysArticles
  refine s_aload_n (pc := 0) hF dX0_laysArticles_0 rfl rfl ?_
  refine s_getr (pc := 1) hF (fl_X0_24 hF) dX0_laysArticles_1 (fun v1 => ?_)
  refine s_callF (pc := 4) (As := []) (st := []) (stf := fun r9 => []) (x := ⟨"java/util/List", "clear", "()V"⟩) hF (mJ2_clear v1) cw_J2_clear rfl ⟨by decide, by decide⟩ q602 q607 n_q604 n_q603 n_q608 (List.forall_mem_cons.mpr ⟨⟨(RJ2, TJ2, 3), rfl, q605, n_q606, n_q155⟩, fun _ h9 => absurd h9 List.not_mem_nil⟩) rfl ⟨Nat.le_of_ble_eq_true rfl, Nat.le_of_ble_eq_true rfl⟩ ⟨trivial, Nat.le_of_ble_eq_true rfl⟩ dX0_laysArticles_4 rfl (fun _ => rfl) (fun v2 M3 z4 => ?_)
  refine s_aload_n (pc := 9) hF dX0_laysArticles_9 rfl rfl ?_
  refine s_getr (pc := 10) hF (fl_X0_21 hF) dX0_laysArticles_10 (fun v5 => ?_)
  refine s_callF (pc := 13) (As := []) (st := []) (stf := fun r9 => va_rf r9 :: []) (x := ⟨"java/util/List", "iterator", "()Ljava/util/Iterator;"⟩) hF (mJ2_iterator v5) cw_J2_iterator rfl ⟨by decide, by decide⟩ q270 q275 n_q272 n_q271 n_q276 (List.forall_mem_cons.mpr ⟨⟨(RJ2, TJ2, 3), rfl, q273, n_q274, n_q155⟩, fun _ h9 => absurd h9 List.not_mem_nil⟩) rfl ⟨Nat.le_of_ble_eq_true rfl, Nat.le_of_ble_eq_true rfl⟩ ⟨trivial, Nat.le_of_ble_eq_true rfl⟩ dX0_laysArticles_13 rfl (fun _ => rfl) (fun v6 M7 z8 => ?_)
  refine s_astore_n (L9 := [some (va_rf a0), some (va_rf v6), none]) (pc := 18) hF dX0_laysArticles_18 rfl (Nat.le_of_ble_eq_true rfl) rfl ?_
  exact SK.sb (gX0_laysArticles_L19 hF FU a0 v6 M7 z8) ⟨rfl, ⟨rfl, trivial⟩⟩
theorem mX0_laysArticles (a0 : Option Nat) : MT yX0_laysArticles cX0_laysArticles 3 (Option.none : Option Jvm.ClassFile.FieldType) 12 331 eV [va_rf a0] (fX0_laysArticles a0) :=
  MT.of (L0 := [some (va_rf a0), none, none]) (by decide) ⟨ct _, trivial⟩ (Nat.le_of_ble_eq_true rfl) rfl (fun _ _ hF M z => gX0_laysArticles hF a0 M z)

theorem fl_X0_54 {G : Cx} {nL fr lc : Nat} {cc : ByteArray} {ret : Option FieldType} {nm : String} (hF : FX G cc nL RX0 ret nm fr lc) : ∀ c ∈ [0], GF G RX0 54 c 2 := by
  obtain ⟨⟨p, l, e, R, s, m, args, below, meth, c0⟩, A, D, dA, mi⟩ := G
  obtain ⟨hx, hb, hml, hown, hts, hr, hlk, hK, hnm, hfr, hlc⟩ := hF
  exact List.forall_mem_cons.mpr ⟨⟨RX0, TX0, 6, "StoryColumns", rfl, in_X0, Nat.le_of_ble_eq_true rfl, Or.inl (hts _ q124), fun _ h => h⟩, fun _ h9 => absurd h9 List.not_mem_nil⟩
theorem cw_X0_laysArticles : CWm yX0_laysArticles cX0_laysArticles 3 (Option.none : Option Jvm.ClassFile.FieldType) 0 := ⟨q830, q59, by decide +kernel, by decide +kernel, by decide +kernel⟩
theorem cw_X0_links : CWm yX0_links cX0_links 4 (Option.none : Option Jvm.ClassFile.FieldType) 0 := ⟨q808, q59, by decide +kernel, by decide +kernel, by decide +kernel⟩
theorem cw_X0_laysStories : CWm yX0_laysStories cX0_laysStories 4 (Option.none : Option Jvm.ClassFile.FieldType) 0 := ⟨q785, q59, by decide +kernel, by decide +kernel, by decide +kernel⟩
theorem cw_X0_joinsOne : CWm yX0_joinsOne cX0_joinsOne 4 (Option.some Jvm.ClassFile.FieldType.boolean) 0 := ⟨q761, q59, by decide +kernel, by decide +kernel, by decide +kernel⟩
theorem cw_X0_gathers : CWm yX0_gathers cX0_gathers 6 (Option.none : Option Jvm.ClassFile.FieldType) 0 := ⟨q678, q59, by decide +kernel, by decide +kernel, by decide +kernel⟩
def fX0_knows_L19 : Nat → Option Nat → Int32 → Mp → Nat → Rs Unit
  | 0, _, _, _, _ => none
  | fu + 1, l0, l1, M, z => if l1 = 0 then
  (if ckc M l0 [0] = true then
  (cb (fX0_laysStories l0 M z) z fun _ M2 z3 =>
if ckc M2 l0 [0] = true then
  (cb (fX0_links l0 M2 z3) z3 fun _ M5 z6 =>
if ckc M5 l0 [0] = true then
  (cb (fX0_laysArticles l0 M5 z6) z6 fun _ M8 z9 =>
some ((), M8, 0, 0))
else none)
else none)
else none)
else
  (if ckc M l0 [0] = true then
  (cb (fX0_joinsOne l0 M z) z fun v10 M11 z12 =>
fX0_knows_L19 fu l0 v10 M11 z12)
else none)

theorem gX0_knows_L19 {G : Cx} {F : Option Value × Mp × Nat} (hF : FX G cX0_knows 2 RX0 (Option.none : Option Jvm.ClassFile.FieldType) "knows" 13 353) : ∀ (fu : Nat) (l0 : Option Nat) (l1 : Int32) (M : Mp) (z : Nat), SK G F 2 eV 19 [some (va_rf l0), some (.int l1)] [] M z (fX0_knows_L19 fu l0 l1 M z) := by
  intro fu
  induction fu with
  | zero => intros; exact SK.fail
  | succ fu ih =>
    intro l0 l1 M z
    rw [fX0_knows_L19]
    refine s_iload_n (pc := 19) hF dX0_knows_19 rfl rfl ?_
    refine s_if_eq (pc := 20) hF 31 dX0_knows_20 rfl ?_ ?_
    · refine s_aload_n (pc := 31) hF dX0_knows_31 rfl rfl ?_
      refine s_callV (pc := 32) (As := []) (st := []) (stf := fun r9 => []) hF (mX0_laysStories l0) cw_X0_laysStories q782 q784 (List.forall_mem_cons.mpr ⟨⟨(RX0, TX0, 6), rfl, qs14⟩, fun _ h9 => absurd h9 List.not_mem_nil⟩) rfl ⟨Nat.le_of_ble_eq_true rfl, Nat.le_of_ble_eq_true rfl⟩ ⟨trivial, Nat.le_of_ble_eq_true rfl⟩ dX0_knows_32 rfl (fun _ => rfl) (fun v1 M2 z3 => ?_)
      refine s_aload_n (pc := 35) hF dX0_knows_35 rfl rfl ?_
      refine s_callV (pc := 36) (As := []) (st := []) (stf := fun r9 => []) hF (mX0_links l0) cw_X0_links q805 q807 (List.forall_mem_cons.mpr ⟨⟨(RX0, TX0, 6), rfl, qs15⟩, fun _ h9 => absurd h9 List.not_mem_nil⟩) rfl ⟨Nat.le_of_ble_eq_true rfl, Nat.le_of_ble_eq_true rfl⟩ ⟨trivial, Nat.le_of_ble_eq_true rfl⟩ dX0_knows_36 rfl (fun _ => rfl) (fun v4 M5 z6 => ?_)
      refine s_aload_n (pc := 39) hF dX0_knows_39 rfl rfl ?_
      refine s_callV (pc := 40) (As := []) (st := []) (stf := fun r9 => []) hF (mX0_laysArticles l0) cw_X0_laysArticles q827 q829 (List.forall_mem_cons.mpr ⟨⟨(RX0, TX0, 6), rfl, qs16⟩, fun _ h9 => absurd h9 List.not_mem_nil⟩) rfl ⟨Nat.le_of_ble_eq_true rfl, Nat.le_of_ble_eq_true rfl⟩ ⟨trivial, Nat.le_of_ble_eq_true rfl⟩ dX0_knows_40 rfl (fun _ => rfl) (fun v7 M8 z9 => ?_)
      exact s_vret (pc := 43) hF dX0_knows_43
    · refine s_aload_n (pc := 23) hF dX0_knows_23 rfl rfl ?_
      refine s_callV (pc := 24) (As := []) (st := []) (stf := fun r9 => .int r9 :: []) hF (mX0_joinsOne l0) cw_X0_joinsOne q758 q760 (List.forall_mem_cons.mpr ⟨⟨(RX0, TX0, 6), rfl, qs12⟩, fun _ h9 => absurd h9 List.not_mem_nil⟩) rfl ⟨Nat.le_of_ble_eq_true rfl, Nat.le_of_ble_eq_true rfl⟩ ⟨trivial, Nat.le_of_ble_eq_true rfl⟩ dX0_knows_24 rfl (fun _ => rfl) (fun v10 M11 z12 => ?_)
      refine s_istore_n (L9 := [some (va_rf l0), some (.int v10)]) (pc := 27) hF dX0_knows_27 rfl (Nat.le_of_ble_eq_true rfl) rfl ?_
      refine s_goto (pc := 28) hF 19 dX0_knows_28 rfl ?_
      exact SK.sb (ih l0 v10 M11 z12) ⟨rfl, ⟨rfl, trivial⟩⟩
def fX0_knows (a0 : Option Nat) (M : Mp) (z : Nat) : Rs Unit := (gi M a0 [0] 2).bind fun v1 =>
if v1 = 0 then
  (if (1 : Int32) = 0 ∨ (1 : Int32) = 1 then
  ((pu M a0 [0] 2 (.int (1 : Int32))).bind fun M2 =>
if ckc M2 a0 [0] = true then
  (cb (fX0_gathers a0 M2 z) z fun _ M4 z5 =>
fX0_knows_L19 FU a0 (1 : Int32) M4 z5)
else none)
else none)
else
  (some ((), M, 0, 0))
theorem gX0_knows {G : Cx} {F : Option Value × Mp × Nat} (hF : FX G cX0_knows 2 RX0 (Option.none : Option Jvm.ClassFile.FieldType) "knows" 13 353) (a0 : Option Nat) (M : Mp) (z : Nat) : SK G F 2 eV 0 [some (va_rf a0), none] [] M z (fX0_knows a0 M z) := by
  unfold fX0_knows
  refine s_aload_n (pc := 0) hF dX0_knows_0 rfl rfl ?_
  refine s_geti (pc := 1) hF (fl_X0_54 hF) dX0_knows_1 (fun v1 => ?_)
  refine s_if_eq (pc := 4) hF 8 dX0_knows_4 rfl ?_ ?_
  · refine s_aload_n (pc := 8) hF dX0_knows_8 rfl rfl ?_
    refine s_iconst (pc := 9) hF dX0_knows_9 (1 : Int32) (by decide) ?_
    refine SK.chk fun h01 => ?_
    refine s_put (pc := 10) hF (pl_X0_54 hF _ h01) dX0_knows_10 (fun M2 => ?_)
    refine s_aload_n (pc := 13) hF dX0_knows_13 rfl rfl ?_
    refine s_callV (pc := 14) (As := []) (st := []) (stf := fun r9 => []) hF (mX0_gathers a0) cw_X0_gathers q675 q677 (List.forall_mem_cons.mpr ⟨⟨(RX0, TX0, 6), rfl, qs9⟩, fun _ h9 => absurd h9 List.not_mem_nil⟩) rfl ⟨Nat.le_of_ble_eq_true rfl, Nat.le_of_ble_eq_true rfl⟩ ⟨trivial, Nat.le_of_ble_eq_true rfl⟩ dX0_knows_14 rfl (fun _ => rfl) (fun v3 M4 z5 => ?_)
    refine s_iconst (pc := 17) hF dX0_knows_17 (1 : Int32) (by decide) ?_
    refine s_istore_n (L9 := [some (va_rf a0), some (.int (1 : Int32))]) (pc := 18) hF dX0_knows_18 rfl (Nat.le_of_ble_eq_true rfl) rfl ?_
    exact SK.sb (gX0_knows_L19 hF FU a0 (1 : Int32) M4 z5) ⟨rfl, ⟨rfl, trivial⟩⟩
  · exact s_vret (pc := 7) hF dX0_knows_7
theorem mX0_knows (a0 : Option Nat) : MT yX0_knows cX0_knows 2 (Option.none : Option Jvm.ClassFile.FieldType) 13 353 eV [va_rf a0] (fX0_knows a0) :=
  MT.of (L0 := [some (va_rf a0), none]) (by decide) ⟨ct _, trivial⟩ (Nat.le_of_ble_eq_true rfl) rfl (fun _ _ hF M z => gX0_knows hF a0 M z)

theorem fl_X0_236 {G : Cx} {nL fr lc : Nat} {cc : ByteArray} {ret : Option FieldType} {nm : String} (hF : FX G cc nL RX0 ret nm fr lc) : ∀ c ∈ [3], GF G RX0 236 c 0 := by
  obtain ⟨⟨p, l, e, R, s, m, args, below, meth, c0⟩, A, D, dA, mi⟩ := G
  obtain ⟨hx, hb, hml, hown, hts, hr, hlk, hK, hnm, hfr, hlc⟩ := hF
  exact List.forall_mem_cons.mpr ⟨⟨RX3, TX3, 14, "StoryColumns$Head", rfl, in_X3, Nat.le_of_ble_eq_true rfl, Or.inl (hts _ q178), u_same (hts _ q176)⟩, fun _ h9 => absurd h9 List.not_mem_nil⟩
theorem cw_X0_knows : CWm yX0_knows cX0_knows 2 (Option.none : Option Jvm.ClassFile.FieldType) 0 := ⟨q674, q59, by decide +kernel, by decide +kernel, by decide +kernel⟩
def fX0_under (a0 : Option Nat) (a1 : Int32) (M : Mp) (z : Nat) : Rs Int32 := if ckc M a0 [0] = true then
  (cb (fX0_isBlock a0 a1 M z) z fun v1 M2 z3 =>
if v1 = 0 then
  (some ((-1 : Int32), M2, 0, 0))
else
  (if ckc M2 a0 [0] = true then
  (cb (fX0_knows a0 M2 z3) z3 fun _ M5 z6 =>
(gr M5 a0 [0] 0).bind fun v7 =>
if ckc M5 v7 [11] = true then
  (cb (fJ2_get v7 a1 M5 z6) z6 fun v8 M9 z10 =>
if cst M9 v8 [2, 3] = true then
  ((gi M9 v8 [2, 3] 2).bind fun v11 =>
if v11 = 0 then
  (some ((-3 : Int32), M9, 0, 0))
else
  ((gr M9 v8 [2, 3] 9).bind fun v12 =>
if v12 = none then
  (some ((-9 : Int32), M9, 0, 0))
else
  ((gr M9 v8 [2, 3] 9).bind fun v13 =>
(gi M9 v13 [3] 0).bind fun v14 =>
some (v14, M9, 0, 0))))
else none)
else none)
else none))
else none
theorem gX0_under {G : Cx} {F : Option Value × Mp × Nat} (hF : FX G cX0_under 3 RX0 (Option.some Jvm.ClassFile.FieldType.int) "under" 14 374) (a0 : Option Nat) (a1 : Int32) (M : Mp) (z : Nat) : SK G F 3 eI 0 [some (va_rf a0), some (.int a1), none] [] M z (fX0_under a0 a1 M z) := by
  unfold fX0_under
  refine s_aload_n (pc := 0) hF dX0_under_0 rfl rfl ?_
  refine s_iload_n (pc := 1) hF dX0_under_1 rfl rfl ?_
  refine s_callV (pc := 2) (As := [.int a1]) (st := []) (stf := fun r9 => .int r9 :: []) hF (mX0_isBlock a0 a1) cw_X0_isBlock q518 q520 (List.forall_mem_cons.mpr ⟨⟨(RX0, TX0, 6), rfl, qs5⟩, fun _ h9 => absurd h9 List.not_mem_nil⟩) rfl ⟨Nat.le_of_ble_eq_true rfl, Nat.le_of_ble_eq_true rfl⟩ ⟨trivial, Nat.le_of_ble_eq_true rfl⟩ dX0_under_2 rfl (fun _ => rfl) (fun v1 M2 z3 => ?_)
  refine s_if_ne (pc := 5) hF 10 dX0_under_5 rfl ?_ ?_
  · refine s_aload_n (pc := 10) hF dX0_under_10 rfl rfl ?_
    refine s_callV (pc := 11) (As := []) (st := []) (stf := fun r9 => []) hF (mX0_knows a0) cw_X0_knows q671 q673 (List.forall_mem_cons.mpr ⟨⟨(RX0, TX0, 6), rfl, qs8⟩, fun _ h9 => absurd h9 List.not_mem_nil⟩) rfl ⟨Nat.le_of_ble_eq_true rfl, Nat.le_of_ble_eq_true rfl⟩ ⟨trivial, Nat.le_of_ble_eq_true rfl⟩ dX0_under_11 rfl (fun _ => rfl) (fun v4 M5 z6 => ?_)
    refine s_aload_n (pc := 14) hF dX0_under_14 rfl rfl ?_
    refine s_getr (pc := 15) hF (fl_X0_14 hF) dX0_under_15 (fun v7 => ?_)
    refine s_iload_n (pc := 18) hF dX0_under_18 rfl rfl ?_
    refine s_callF (pc := 19) (As := [.int a1]) (st := []) (stf := fun r9 => va_rf r9 :: []) (x := ⟨"java/util/List", "get", "(I)Ljava/lang/Object;"⟩) hF (mJ2_get v7 a1) cw_J2_get rfl ⟨by decide, by decide⟩ q523 q356 n_q353 n_q352 n_q357 (List.forall_mem_cons.mpr ⟨⟨(RJ2, TJ2, 3), rfl, q354, n_q355, n_q155⟩, fun _ h9 => absurd h9 List.not_mem_nil⟩) rfl ⟨Nat.le_of_ble_eq_true rfl, Nat.le_of_ble_eq_true rfl⟩ ⟨trivial, Nat.le_of_ble_eq_true rfl⟩ dX0_under_19 rfl (fun _ => rfl) (fun v8 M9 z10 => ?_)
    refine s_cast (pc := 24) hF q252 (List.forall_mem_cons.mpr ⟨⟨(RX2, TX2, 13), rfl, Or.inl rfl⟩, List.forall_mem_cons.mpr ⟨⟨(RX3, TX3, 14), rfl, Or.inr n_q1359⟩, fun _ h9 => absurd h9 List.not_mem_nil⟩⟩) dX0_under_24 ?_
    refine s_astore_n (L9 := [some (va_rf a0), some (.int a1), some (va_rf v8)]) (pc := 27) hF dX0_under_27 rfl (Nat.le_of_ble_eq_true rfl) rfl ?_
    refine s_aload_n (pc := 28) hF dX0_under_28 rfl rfl ?_
    refine s_geti (pc := 29) hF (fl_X0_134 hF) dX0_under_29 (fun v11 => ?_)
    refine s_if_ne (pc := 32) hF 38 dX0_under_32 rfl ?_ ?_
    · refine s_aload_n (pc := 38) hF dX0_under_38 rfl rfl ?_
      refine s_getr (pc := 39) hF (fl_X0_172 hF) dX0_under_39 (fun v12 => ?_)
      refine s_ifnonnull (pc := 42) hF 50 dX0_under_42 rfl ?_ ?_
      · refine s_aload_n (pc := 50) hF dX0_under_50 rfl rfl ?_
        refine s_getr (pc := 51) hF (fl_X0_172 hF) dX0_under_51 (fun v13 => ?_)
        refine s_geti (pc := 54) hF (fl_X0_236 hF) dX0_under_54 (fun v14 => ?_)
        exact s_iret (pc := 57) hF dX0_under_57
      · refine s_bipush (pc := 45) hF dX0_under_45 (-9 : Int32) (by decide) ?_
        refine s_goto (pc := 47) hF 57 dX0_under_47 rfl ?_
        exact s_iret (pc := 57) hF dX0_under_57
    · refine s_bipush (pc := 35) hF dX0_under_35 (-3 : Int32) (by decide) ?_
      exact s_iret (pc := 37) hF dX0_under_37
  · refine s_iconst (pc := 8) hF dX0_under_8 (-1 : Int32) (by decide) ?_
    exact s_iret (pc := 9) hF dX0_under_9
theorem mX0_under (a0 : Option Nat) (a1 : Int32) : MT yX0_under cX0_under 3 (Option.some Jvm.ClassFile.FieldType.int) 14 374 eI [va_rf a0, .int a1] (fX0_under a0 a1) :=
  MT.of (L0 := [some (va_rf a0), some (.int a1), none]) (by decide) ⟨ct _, ⟨rfl, trivial⟩⟩ (Nat.le_of_ble_eq_true rfl) rfl (fun _ _ hF M z => gX0_under hF a0 a1 M z)

def fX0_story_J61 (s0 : Option Nat) (M : Mp) (z : Nat) : Rs Int32 := if s0 = none then
  (some ((-9 : Int32), M, 0, 0))
else
  (if ckc M s0 [5] = true then
  (cb (fX5_number s0 M z) z fun v1 M2 z3 =>
some (v1, M2, 0, 0))
else none)

theorem gX0_story_J61 {G : Cx} {F : Option Value × Mp × Nat} (hF : FX G cX0_story 4 RX0 (Option.some Jvm.ClassFile.FieldType.int) "story" 14 374) (s0 : Option Nat) (M : Mp) (z : Nat) : SK G F 4 eI 61 [none, none, none, none] [va_rf s0] M z (fX0_story_J61 s0 M z) := by
  unfold fX0_story_J61
  refine s_astore_n (L9 := [none, none, none, some (va_rf s0)]) (pc := 61) hF dX0_story_61 rfl (Nat.le_of_ble_eq_true rfl) rfl ?_
  refine s_aload_n (pc := 62) hF dX0_story_62 rfl rfl ?_
  refine s_ifnonnull (pc := 63) hF 71 dX0_story_63 rfl ?_ ?_
  · refine s_aload_n (pc := 71) hF dX0_story_71 rfl rfl ?_
    refine s_callV (pc := 72) (As := []) (st := []) (stf := fun r9 => .int r9 :: []) hF (mX5_number s0) cw_X5_number q786 q787 (List.forall_mem_cons.mpr ⟨⟨(RX5, TX5, 8), rfl, q788⟩, fun _ h9 => absurd h9 List.not_mem_nil⟩) rfl ⟨Nat.le_of_ble_eq_true rfl, Nat.le_of_ble_eq_true rfl⟩ ⟨trivial, Nat.le_of_ble_eq_true rfl⟩ dX0_story_72 rfl (fun _ => rfl) (fun v1 M2 z3 => ?_)
    exact s_iret (pc := 75) hF dX0_story_75
  · refine s_bipush (pc := 66) hF dX0_story_66 (-9 : Int32) (by decide) ?_
    refine s_goto (pc := 68) hF 75 dX0_story_68 rfl ?_
    exact s_iret (pc := 75) hF dX0_story_75
def fX0_story (a0 : Option Nat) (a1 : Int32) (M : Mp) (z : Nat) : Rs Int32 := if ckc M a0 [0] = true then
  (cb (fX0_isBlock a0 a1 M z) z fun v1 M2 z3 =>
if v1 = 0 then
  (some ((-1 : Int32), M2, 0, 0))
else
  (if ckc M2 a0 [0] = true then
  (cb (fX0_knows a0 M2 z3) z3 fun _ M5 z6 =>
(gr M5 a0 [0] 0).bind fun v7 =>
if ckc M5 v7 [11] = true then
  (cb (fJ2_get v7 a1 M5 z6) z6 fun v8 M9 z10 =>
if cst M9 v8 [2, 3] = true then
  ((gi M9 v8 [2, 3] 2).bind fun v11 =>
if v11 = (2 : Int32) then
  ((gr M9 v8 [2, 3] 9).bind fun v13 =>
if v13 = none then
  (fX0_story_J61 none M9 z10)
else
  ((gr M9 v8 [2, 3] 9).bind fun v14 =>
(gr M9 v14 [3] 10).bind fun v15 =>
fX0_story_J61 v15 M9 z10))
else
  ((gr M9 v8 [2, 3] 10).bind fun v12 =>
fX0_story_J61 v12 M9 z10))
else none)
else none)
else none))
else none
theorem gX0_story {G : Cx} {F : Option Value × Mp × Nat} (hF : FX G cX0_story 4 RX0 (Option.some Jvm.ClassFile.FieldType.int) "story" 14 374) (a0 : Option Nat) (a1 : Int32) (M : Mp) (z : Nat) : SK G F 4 eI 0 [some (va_rf a0), some (.int a1), none, none] [] M z (fX0_story a0 a1 M z) := by
  unfold fX0_story
  refine s_aload_n (pc := 0) hF dX0_story_0 rfl rfl ?_
  refine s_iload_n (pc := 1) hF dX0_story_1 rfl rfl ?_
  refine s_callV (pc := 2) (As := [.int a1]) (st := []) (stf := fun r9 => .int r9 :: []) hF (mX0_isBlock a0 a1) cw_X0_isBlock q518 q520 (List.forall_mem_cons.mpr ⟨⟨(RX0, TX0, 6), rfl, qs5⟩, fun _ h9 => absurd h9 List.not_mem_nil⟩) rfl ⟨Nat.le_of_ble_eq_true rfl, Nat.le_of_ble_eq_true rfl⟩ ⟨trivial, Nat.le_of_ble_eq_true rfl⟩ dX0_story_2 rfl (fun _ => rfl) (fun v1 M2 z3 => ?_)
  refine s_if_ne (pc := 5) hF 10 dX0_story_5 rfl ?_ ?_
  · refine s_aload_n (pc := 10) hF dX0_story_10 rfl rfl ?_
    refine s_callV (pc := 11) (As := []) (st := []) (stf := fun r9 => []) hF (mX0_knows a0) cw_X0_knows q671 q673 (List.forall_mem_cons.mpr ⟨⟨(RX0, TX0, 6), rfl, qs8⟩, fun _ h9 => absurd h9 List.not_mem_nil⟩) rfl ⟨Nat.le_of_ble_eq_true rfl, Nat.le_of_ble_eq_true rfl⟩ ⟨trivial, Nat.le_of_ble_eq_true rfl⟩ dX0_story_11 rfl (fun _ => rfl) (fun v4 M5 z6 => ?_)
    refine s_aload_n (pc := 14) hF dX0_story_14 rfl rfl ?_
    refine s_getr (pc := 15) hF (fl_X0_14 hF) dX0_story_15 (fun v7 => ?_)
    refine s_iload_n (pc := 18) hF dX0_story_18 rfl rfl ?_
    refine s_callF (pc := 19) (As := [.int a1]) (st := []) (stf := fun r9 => va_rf r9 :: []) (x := ⟨"java/util/List", "get", "(I)Ljava/lang/Object;"⟩) hF (mJ2_get v7 a1) cw_J2_get rfl ⟨by decide, by decide⟩ q523 q356 n_q353 n_q352 n_q357 (List.forall_mem_cons.mpr ⟨⟨(RJ2, TJ2, 3), rfl, q354, n_q355, n_q155⟩, fun _ h9 => absurd h9 List.not_mem_nil⟩) rfl ⟨Nat.le_of_ble_eq_true rfl, Nat.le_of_ble_eq_true rfl⟩ ⟨trivial, Nat.le_of_ble_eq_true rfl⟩ dX0_story_19 rfl (fun _ => rfl) (fun v8 M9 z10 => ?_)
    refine s_cast (pc := 24) hF q252 (List.forall_mem_cons.mpr ⟨⟨(RX2, TX2, 13), rfl, Or.inl rfl⟩, List.forall_mem_cons.mpr ⟨⟨(RX3, TX3, 14), rfl, Or.inr n_q1359⟩, fun _ h9 => absurd h9 List.not_mem_nil⟩⟩) dX0_story_24 ?_
    refine s_astore_n (L9 := [some (va_rf a0), some (.int a1), some (va_rf v8), none]) (pc := 27) hF dX0_story_27 rfl (Nat.le_of_ble_eq_true rfl) rfl ?_
    refine s_aload_n (pc := 28) hF dX0_story_28 rfl rfl ?_
    refine s_geti (pc := 29) hF (fl_X0_134 hF) dX0_story_29 (fun v11 => ?_)
    refine s_iconst (pc := 32) hF dX0_story_32 (2 : Int32) (by decide) ?_
    refine s_icmp_ne (pc := 33) hF 57 dX0_story_33 rfl ?_ ?_
    · refine s_aload_n (pc := 57) hF dX0_story_57 rfl rfl ?_
      refine s_getr (pc := 58) hF (fl_X0_180 hF) dX0_story_58 (fun v12 => ?_)
      exact SK.sb (gX0_story_J61 hF v12 M9 z10) trivial
    · refine s_aload_n (pc := 36) hF dX0_story_36 rfl rfl ?_
      refine s_getr (pc := 37) hF (fl_X0_172 hF) dX0_story_37 (fun v13 => ?_)
      refine s_ifnonnull (pc := 40) hF 47 dX0_story_40 rfl ?_ ?_
      · refine s_aload_n (pc := 47) hF dX0_story_47 rfl rfl ?_
        refine s_getr (pc := 48) hF (fl_X0_172 hF) dX0_story_48 (fun v14 => ?_)
        refine s_getr (pc := 51) hF (fl_X0_161 hF) dX0_story_51 (fun v15 => ?_)
        refine s_goto (pc := 54) hF 61 dX0_story_54 rfl ?_
        exact SK.sb (gX0_story_J61 hF v15 M9 z10) trivial
      · refine s_null (pc := 43) hF dX0_story_43 ?_
        refine s_goto (pc := 44) hF 61 dX0_story_44 rfl ?_
        exact SK.sb (gX0_story_J61 hF none M9 z10) trivial
  · refine s_iconst (pc := 8) hF dX0_story_8 (-1 : Int32) (by decide) ?_
    exact s_iret (pc := 9) hF dX0_story_9
theorem mX0_story (a0 : Option Nat) (a1 : Int32) : MT yX0_story cX0_story 4 (Option.some Jvm.ClassFile.FieldType.int) 14 374 eI [va_rf a0, .int a1] (fX0_story a0 a1) :=
  MT.of (L0 := [some (va_rf a0), some (.int a1), none, none]) (by decide) ⟨ct _, ⟨rfl, trivial⟩⟩ (Nat.le_of_ble_eq_true rfl) rfl (fun _ _ hF M z => gX0_story hF a0 a1 M z)

theorem fl_X0_237 {G : Cx} {nL fr lc : Nat} {cc : ByteArray} {ret : Option FieldType} {nm : String} (hF : FX G cc nL RX0 ret nm fr lc) : ∀ c ∈ [2, 3], GF G RX0 237 c 11 := by
  obtain ⟨⟨p, l, e, R, s, m, args, below, meth, c0⟩, A, D, dA, mi⟩ := G
  obtain ⟨hx, hb, hml, hown, hts, hr, hlk, hK, hnm, hfr, hlc⟩ := hF
  exact List.forall_mem_cons.mpr ⟨⟨RX2, TX2, 13, "StoryColumns$Block", rfl, in_X2, Nat.le_of_ble_eq_true rfl, Or.inl (hts _ q221), fun _ h => h⟩, List.forall_mem_cons.mpr ⟨⟨RX3, TX3, 14, "StoryColumns$Block", rfl, in_X3, Nat.le_of_ble_eq_true rfl, Or.inl (hts _ q221), fun _ h => h⟩, fun _ h9 => absurd h9 List.not_mem_nil⟩⟩
def fX0_takenBy (a0 : Option Nat) (a1 : Int32) (M : Mp) (z : Nat) : Rs Int32 := if ckc M a0 [0] = true then
  (cb (fX0_isBlock a0 a1 M z) z fun v1 M2 z3 =>
if v1 = 0 then
  (some ((-1 : Int32), M2, 0, 0))
else
  (if ckc M2 a0 [0] = true then
  (cb (fX0_knows a0 M2 z3) z3 fun _ M5 z6 =>
(gr M5 a0 [0] 0).bind fun v7 =>
if ckc M5 v7 [11] = true then
  (cb (fJ2_get v7 a1 M5 z6) z6 fun v8 M9 z10 =>
if cst M9 v8 [2, 3] = true then
  (if ckc M9 v8 [2, 3] = true then
  (cb (fX2_isText v8 M9 z10) z10 fun v11 M12 z13 =>
if v11 = 0 then
  (some ((-3 : Int32), M12, 0, 0))
else
  ((gr M12 v8 [2, 3] 11).bind fun v14 =>
if v14 = none then
  (some ((-9 : Int32), M12, 0, 0))
else
  ((gr M12 v8 [2, 3] 11).bind fun v15 =>
(gi M12 v15 [2, 3] 0).bind fun v16 =>
some (v16, M12, 0, 0))))
else none)
else none)
else none)
else none))
else none
theorem gX0_takenBy {G : Cx} {F : Option Value × Mp × Nat} (hF : FX G cX0_takenBy 3 RX0 (Option.some Jvm.ClassFile.FieldType.int) "takenBy" 14 374) (a0 : Option Nat) (a1 : Int32) (M : Mp) (z : Nat) : SK G F 3 eI 0 [some (va_rf a0), some (.int a1), none] [] M z (fX0_takenBy a0 a1 M z) := by
  unfold fX0_takenBy
  refine s_aload_n (pc := 0) hF dX0_takenBy_0 rfl rfl ?_
  refine s_iload_n (pc := 1) hF dX0_takenBy_1 rfl rfl ?_
  refine s_callV (pc := 2) (As := [.int a1]) (st := []) (stf := fun r9 => .int r9 :: []) hF (mX0_isBlock a0 a1) cw_X0_isBlock q518 q520 (List.forall_mem_cons.mpr ⟨⟨(RX0, TX0, 6), rfl, qs5⟩, fun _ h9 => absurd h9 List.not_mem_nil⟩) rfl ⟨Nat.le_of_ble_eq_true rfl, Nat.le_of_ble_eq_true rfl⟩ ⟨trivial, Nat.le_of_ble_eq_true rfl⟩ dX0_takenBy_2 rfl (fun _ => rfl) (fun v1 M2 z3 => ?_)
  refine s_if_ne (pc := 5) hF 10 dX0_takenBy_5 rfl ?_ ?_
  · refine s_aload_n (pc := 10) hF dX0_takenBy_10 rfl rfl ?_
    refine s_callV (pc := 11) (As := []) (st := []) (stf := fun r9 => []) hF (mX0_knows a0) cw_X0_knows q671 q673 (List.forall_mem_cons.mpr ⟨⟨(RX0, TX0, 6), rfl, qs8⟩, fun _ h9 => absurd h9 List.not_mem_nil⟩) rfl ⟨Nat.le_of_ble_eq_true rfl, Nat.le_of_ble_eq_true rfl⟩ ⟨trivial, Nat.le_of_ble_eq_true rfl⟩ dX0_takenBy_11 rfl (fun _ => rfl) (fun v4 M5 z6 => ?_)
    refine s_aload_n (pc := 14) hF dX0_takenBy_14 rfl rfl ?_
    refine s_getr (pc := 15) hF (fl_X0_14 hF) dX0_takenBy_15 (fun v7 => ?_)
    refine s_iload_n (pc := 18) hF dX0_takenBy_18 rfl rfl ?_
    refine s_callF (pc := 19) (As := [.int a1]) (st := []) (stf := fun r9 => va_rf r9 :: []) (x := ⟨"java/util/List", "get", "(I)Ljava/lang/Object;"⟩) hF (mJ2_get v7 a1) cw_J2_get rfl ⟨by decide, by decide⟩ q523 q356 n_q353 n_q352 n_q357 (List.forall_mem_cons.mpr ⟨⟨(RJ2, TJ2, 3), rfl, q354, n_q355, n_q155⟩, fun _ h9 => absurd h9 List.not_mem_nil⟩) rfl ⟨Nat.le_of_ble_eq_true rfl, Nat.le_of_ble_eq_true rfl⟩ ⟨trivial, Nat.le_of_ble_eq_true rfl⟩ dX0_takenBy_19 rfl (fun _ => rfl) (fun v8 M9 z10 => ?_)
    refine s_cast (pc := 24) hF q252 (List.forall_mem_cons.mpr ⟨⟨(RX2, TX2, 13), rfl, Or.inl rfl⟩, List.forall_mem_cons.mpr ⟨⟨(RX3, TX3, 14), rfl, Or.inr n_q1359⟩, fun _ h9 => absurd h9 List.not_mem_nil⟩⟩) dX0_takenBy_24 ?_
    refine s_astore_n (L9 := [some (va_rf a0), some (.int a1), some (va_rf v8)]) (pc := 27) hF dX0_takenBy_27 rfl (Nat.le_of_ble_eq_true rfl) rfl ?_
    refine s_aload_n (pc := 28) hF dX0_takenBy_28 rfl rfl ?_
    refine s_callV (pc := 29) (As := []) (st := []) (stf := fun r9 => .int r9 :: []) hF (mX2_isText v8) cw_X2_isText q524 q525 (List.forall_mem_cons.mpr ⟨⟨(RX2, TX2, 13), rfl, q526⟩, List.forall_mem_cons.mpr ⟨⟨(RX3, TX3, 14), rfl, q528⟩, fun _ h9 => absurd h9 List.not_mem_nil⟩⟩) rfl ⟨Nat.le_of_ble_eq_true rfl, Nat.le_of_ble_eq_true rfl⟩ ⟨trivial, Nat.le_of_ble_eq_true rfl⟩ dX0_takenBy_29 rfl (fun _ => rfl) (fun v11 M12 z13 => ?_)
    refine s_if_ne (pc := 32) hF 38 dX0_takenBy_32 rfl ?_ ?_
    · refine s_aload_n (pc := 38) hF dX0_takenBy_38 rfl rfl ?_
      refine s_getr (pc := 39) hF (fl_X0_237 hF) dX0_takenBy_39 (fun v14 => ?_)
      refine s_ifnonnull (pc := 42) hF 50 dX0_takenBy_42 rfl ?_ ?_
      · refine s_aload_n (pc := 50) hF dX0_takenBy_50 rfl rfl ?_
        refine s_getr (pc := 51) hF (fl_X0_237 hF) dX0_takenBy_51 (fun v15 => ?_)
        refine s_geti (pc := 54) hF (fl_X0_150 hF) dX0_takenBy_54 (fun v16 => ?_)
        exact s_iret (pc := 57) hF dX0_takenBy_57
      · refine s_bipush (pc := 45) hF dX0_takenBy_45 (-9 : Int32) (by decide) ?_
        refine s_goto (pc := 47) hF 57 dX0_takenBy_47 rfl ?_
        exact s_iret (pc := 57) hF dX0_takenBy_57
    · refine s_bipush (pc := 35) hF dX0_takenBy_35 (-3 : Int32) (by decide) ?_
      exact s_iret (pc := 37) hF dX0_takenBy_37
  · refine s_iconst (pc := 8) hF dX0_takenBy_8 (-1 : Int32) (by decide) ?_
    exact s_iret (pc := 9) hF dX0_takenBy_9
theorem mX0_takenBy (a0 : Option Nat) (a1 : Int32) : MT yX0_takenBy cX0_takenBy 3 (Option.some Jvm.ClassFile.FieldType.int) 14 374 eI [va_rf a0, .int a1] (fX0_takenBy a0 a1) :=
  MT.of (L0 := [some (va_rf a0), some (.int a1), none]) (by decide) ⟨ct _, ⟨rfl, trivial⟩⟩ (Nat.le_of_ble_eq_true rfl) rfl (fun _ _ hF M z => gX0_takenBy hF a0 a1 M z)

def fX0_isStory (a0 : Option Nat) (a1 : Int32) (M : Mp) (z : Nat) : Rs Int32 := if ckc M a0 [0] = true then
  (cb (fX0_knows a0 M z) z fun _ M2 z3 =>
(gr M2 a0 [0] 3).bind fun v4 =>
if ckc M2 v4 [11] = true then
  (cb (fJ2_size v4 M2 z3) z3 fun v5 M6 z7 =>
cb (fX0_in a1 (0 : Int32) (v5 - (1 : Int32)) M6 z7) z7 fun v8 M9 z10 =>
if v8 = 0 ∨ v8 = 1 then some (v8, M9, 0, 0) else none)
else none)
else none
theorem gX0_isStory {G : Cx} {F : Option Value × Mp × Nat} (hF : FX G cX0_isStory 2 RX0 (Option.some Jvm.ClassFile.FieldType.boolean) "isStory" 14 374) (a0 : Option Nat) (a1 : Int32) (M : Mp) (z : Nat) : SK G F 2 eI 0 [some (va_rf a0), some (.int a1)] [] M z (fX0_isStory a0 a1 M z) := by
  unfold fX0_isStory
  refine s_aload_n (pc := 0) hF dX0_isStory_0 rfl rfl ?_
  refine s_callV (pc := 1) (As := []) (st := []) (stf := fun r9 => []) hF (mX0_knows a0) cw_X0_knows q671 q673 (List.forall_mem_cons.mpr ⟨⟨(RX0, TX0, 6), rfl, qs8⟩, fun _ h9 => absurd h9 List.not_mem_nil⟩) rfl ⟨Nat.le_of_ble_eq_true rfl, Nat.le_of_ble_eq_true rfl⟩ ⟨trivial, Nat.le_of_ble_eq_true rfl⟩ dX0_isStory_1 rfl (fun _ => rfl) (fun v1 M2 z3 => ?_)
  refine s_iload_n (pc := 4) hF dX0_isStory_4 rfl rfl ?_
  refine s_iconst (pc := 5) hF dX0_isStory_5 (0 : Int32) (by decide) ?_
  refine s_aload_n (pc := 6) hF dX0_isStory_6 rfl rfl ?_
  refine s_getr (pc := 7) hF (fl_X0_21 hF) dX0_isStory_7 (fun v4 => ?_)
  refine s_callF (pc := 10) (As := []) (st := [.int (0 : Int32), .int a1]) (stf := fun r9 => .int r9 :: [.int (0 : Int32), .int a1]) (x := ⟨"java/util/List", "size", "()I"⟩) hF (mJ2_size v4) cw_J2_size rfl ⟨by decide, by decide⟩ q152 q158 n_q154 n_q153 n_q159 (List.forall_mem_cons.mpr ⟨⟨(RJ2, TJ2, 3), rfl, q156, n_q157, n_q155⟩, fun _ h9 => absurd h9 List.not_mem_nil⟩) rfl ⟨Nat.le_of_ble_eq_true rfl, Nat.le_of_ble_eq_true rfl⟩ ⟨⟨rfl, ⟨rfl, trivial⟩⟩, Nat.le_of_ble_eq_true rfl⟩ dX0_isStory_10 rfl (fun _ => rfl) (fun v5 M6 z7 => ?_)
  refine s_iconst (pc := 15) hF dX0_isStory_15 (1 : Int32) (by decide) ?_
  refine s_isub (pc := 16) hF dX0_isStory_16 ?_
  refine s_callS (pc := 17) (As := [.int a1, .int (0 : Int32), .int (v5 - (1 : Int32))]) (st := []) (stf := fun r9 => .int r9 :: []) hF (mX0_in a1 (0 : Int32) (v5 - (1 : Int32))) cw_X0_in q145 q146 rfl ⟨Nat.le_of_ble_eq_true rfl, Nat.le_of_ble_eq_true rfl⟩ ⟨trivial, Nat.le_of_ble_eq_true rfl⟩ dX0_isStory_17 rfl (fun _ => rfl) (fun v8 M9 z10 => ?_)
  exact s_zret (pc := 20) hF dX0_isStory_20
theorem mX0_isStory (a0 : Option Nat) (a1 : Int32) : MT yX0_isStory cX0_isStory 2 (Option.some Jvm.ClassFile.FieldType.boolean) 14 374 eI [va_rf a0, .int a1] (fX0_isStory a0 a1) :=
  MT.of (L0 := [some (va_rf a0), some (.int a1)]) (by decide) ⟨ct _, ⟨rfl, trivial⟩⟩ (Nat.le_of_ble_eq_true rfl) rfl (fun _ _ hF M z => gX0_isStory hF a0 a1 M z)

theorem fl_X5_96 {G : Cx} {nL fr lc : Nat} {cc : ByteArray} {ret : Option FieldType} {nm : String} (hF : FX G cc nL RX5 ret nm fr lc) : ∀ c ∈ [2, 3], GF G RX5 96 c 7 := by
  obtain ⟨⟨p, l, e, R, s, m, args, below, meth, c0⟩, A, D, dA, mi⟩ := G
  obtain ⟨hx, hb, hml, hown, hts, hr, hlk, hK, hnm, hfr, hlc⟩ := hF
  exact List.forall_mem_cons.mpr ⟨⟨RX2, TX2, 13, "StoryColumns$Block", rfl, in_X2, Nat.le_of_ble_eq_true rfl, Or.inl (hts _ q206), fun _ h => h⟩, List.forall_mem_cons.mpr ⟨⟨RX3, TX3, 14, "StoryColumns$Block", rfl, in_X3, Nat.le_of_ble_eq_true rfl, Or.inl (hts _ q206), fun _ h => h⟩, fun _ h9 => absurd h9 List.not_mem_nil⟩⟩
def fX5_words_L12 : Nat → Int32 → Option Nat → Mp → Nat → Rs Int32
  | 0, _, _, _, _ => none
  | fu + 1, l1, l2, M, z => if ckc M l2 [12] = true then
  (cb (fJ3_hasNext l2 M z) z fun v1 M2 z3 =>
if v1 = 0 then
  (some (l1, M2, 0, 0))
else
  (if ckc M2 l2 [12] = true then
  (cb (fJ3_next l2 M2 z3) z3 fun v4 M5 z6 =>
if cst M5 v4 [2, 3] = true then
  ((gi M5 v4 [2, 3] 7).bind fun v7 =>
fX5_words_L12 fu (l1 + v7) l2 M5 z6)
else none)
else none))
else none

theorem gX5_words_L12 {G : Cx} {F : Option Value × Mp × Nat} (hF : FX G cX5_words 4 RX5 (Option.some Jvm.ClassFile.FieldType.int) "words" 3 61) : ∀ (fu : Nat) (l1 : Int32) (l2 : Option Nat) (M : Mp) (z : Nat), SK G F 4 eI 12 [none, some (.int l1), some (va_rf l2), none] [] M z (fX5_words_L12 fu l1 l2 M z) := by
  intro fu
  induction fu with
  | zero => intros; exact SK.fail
  | succ fu ih =>
    intro l1 l2 M z
    rw [fX5_words_L12]
    refine s_aload_n (pc := 12) hF dX5_words_12 rfl rfl ?_
    refine s_callF (pc := 13) (As := []) (st := []) (stf := fun r9 => .int r9 :: []) (x := ⟨"java/util/Iterator", "hasNext", "()Z"⟩) hF (mJ3_hasNext l2) cw_J3_hasNext rfl ⟨by decide, by decide⟩ q820 q325 n_q300 n_q299 n_q326 (List.forall_mem_cons.mpr ⟨⟨(RJ3, TJ3, 4), rfl, q323, n_q324, n_q322⟩, fun _ h9 => absurd h9 List.not_mem_nil⟩) rfl ⟨Nat.le_of_ble_eq_true rfl, Nat.le_of_ble_eq_true rfl⟩ ⟨trivial, Nat.le_of_ble_eq_true rfl⟩ dX5_words_13 rfl (fun _ => rfl) (fun v1 M2 z3 => ?_)
    refine s_if_eq (pc := 18) hF 41 dX5_words_18 rfl ?_ ?_
    · refine s_iload_n (pc := 41) hF dX5_words_41 rfl rfl ?_
      exact s_iret (pc := 42) hF dX5_words_42
    · refine s_aload_n (pc := 21) hF dX5_words_21 rfl rfl ?_
      refine s_callF (pc := 22) (As := []) (st := []) (stf := fun r9 => va_rf r9 :: []) (x := ⟨"java/util/Iterator", "next", "()Ljava/lang/Object;"⟩) hF (mJ3_next l2) cw_J3_next rfl ⟨by decide, by decide⟩ q822 q372 n_q331 n_q330 n_q373 (List.forall_mem_cons.mpr ⟨⟨(RJ3, TJ3, 4), rfl, q370, n_q371, n_q322⟩, fun _ h9 => absurd h9 List.not_mem_nil⟩) rfl ⟨Nat.le_of_ble_eq_true rfl, Nat.le_of_ble_eq_true rfl⟩ ⟨trivial, Nat.le_of_ble_eq_true rfl⟩ dX5_words_22 rfl (fun _ => rfl) (fun v4 M5 z6 => ?_)
      refine s_cast (pc := 27) hF q740 (List.forall_mem_cons.mpr ⟨⟨(RX2, TX2, 13), rfl, Or.inl rfl⟩, List.forall_mem_cons.mpr ⟨⟨(RX3, TX3, 14), rfl, Or.inr n_q1359⟩, fun _ h9 => absurd h9 List.not_mem_nil⟩⟩) dX5_words_27 ?_
      refine s_astore_n (L9 := [none, some (.int l1), some (va_rf l2), some (va_rf v4)]) (pc := 30) hF dX5_words_30 rfl (Nat.le_of_ble_eq_true rfl) rfl ?_
      refine s_iload_n (pc := 31) hF dX5_words_31 rfl rfl ?_
      refine s_aload_n (pc := 32) hF dX5_words_32 rfl rfl ?_
      refine s_geti (pc := 33) hF (fl_X5_96 hF) dX5_words_33 (fun v7 => ?_)
      refine s_iadd (pc := 36) hF dX5_words_36 ?_
      refine s_istore_n (L9 := [none, some (.int (l1 + v7)), some (va_rf l2), some (va_rf v4)]) (pc := 37) hF dX5_words_37 rfl (Nat.le_of_ble_eq_true rfl) rfl ?_
      refine s_goto (pc := 38) hF 12 dX5_words_38 rfl ?_
      exact SK.sb (ih (l1 + v7) l2 M5 z6) ⟨rfl, ⟨rfl, trivial⟩⟩
def fX5_words (a0 : Option Nat) (M : Mp) (z : Nat) : Rs Int32 := (gr M a0 [5] 1).bind fun v1 =>
if ckc M v1 [11] = true then
  (cb (fJ2_iterator v1 M z) z fun v2 M3 z4 =>
fX5_words_L12 FU (0 : Int32) v2 M3 z4)
else none
theorem gX5_words {G : Cx} {F : Option Value × Mp × Nat} (hF : FX G cX5_words 4 RX5 (Option.some Jvm.ClassFile.FieldType.int) "words" 3 61) (a0 : Option Nat) (M : Mp) (z : Nat) : SK G F 4 eI 0 [some (va_rf a0), none, none, none] [] M z (fX5_words a0 M z) := by
  unfold fX5_words
  refine s_iconst (pc := 0) hF dX5_words_0 (0 : Int32) (by decide) ?_
  refine s_istore_n (L9 := [some (va_rf a0), some (.int (0 : Int32)), none, none]) (pc := 1) hF dX5_words_1 rfl (Nat.le_of_ble_eq_true rfl) rfl ?_
  refine s_aload_n (pc := 2) hF dX5_words_2 rfl rfl ?_
  refine s_getr (pc := 3) hF (fl_X5_20 hF) dX5_words_3 (fun v1 => ?_)
  refine s_callF (pc := 6) (As := []) (st := []) (stf := fun r9 => va_rf r9 :: []) (x := ⟨"java/util/List", "iterator", "()Ljava/util/Iterator;"⟩) hF (mJ2_iterator v1) cw_J2_iterator rfl ⟨by decide, by decide⟩ q818 q275 n_q272 n_q271 n_q276 (List.forall_mem_cons.mpr ⟨⟨(RJ2, TJ2, 3), rfl, q273, n_q274, n_q155⟩, fun _ h9 => absurd h9 List.not_mem_nil⟩) rfl ⟨Nat.le_of_ble_eq_true rfl, Nat.le_of_ble_eq_true rfl⟩ ⟨trivial, Nat.le_of_ble_eq_true rfl⟩ dX5_words_6 rfl (fun _ => rfl) (fun v2 M3 z4 => ?_)
  refine s_astore_n (L9 := [some (va_rf a0), some (.int (0 : Int32)), some (va_rf v2), none]) (pc := 11) hF dX5_words_11 rfl (Nat.le_of_ble_eq_true rfl) rfl ?_
  exact SK.sb (gX5_words_L12 hF FU (0 : Int32) v2 M3 z4) ⟨rfl, ⟨rfl, trivial⟩⟩
theorem mX5_words (a0 : Option Nat) : MT yX5_words cX5_words 4 (Option.some Jvm.ClassFile.FieldType.int) 3 61 eI [va_rf a0] (fX5_words a0) :=
  MT.of (L0 := [some (va_rf a0), none, none, none]) (by decide) ⟨ct _, trivial⟩ (Nat.le_of_ble_eq_true rfl) rfl (fun _ _ hF M z => gX5_words hF a0 M z)

theorem fl_X5_102 {G : Cx} {nL fr lc : Nat} {cc : ByteArray} {ret : Option FieldType} {nm : String} (hF : FX G cc nL RX5 ret nm fr lc) : ∀ c ∈ [2, 3], GF G RX5 102 c 2 := by
  obtain ⟨⟨p, l, e, R, s, m, args, below, meth, c0⟩, A, D, dA, mi⟩ := G
  obtain ⟨hx, hb, hml, hown, hts, hr, hlk, hK, hnm, hfr, hlc⟩ := hF
  exact List.forall_mem_cons.mpr ⟨⟨RX2, TX2, 13, "StoryColumns$Block", rfl, in_X2, Nat.le_of_ble_eq_true rfl, Or.inl (hts _ q187), fun _ h => h⟩, List.forall_mem_cons.mpr ⟨⟨RX3, TX3, 14, "StoryColumns$Block", rfl, in_X3, Nat.le_of_ble_eq_true rfl, Or.inl (hts _ q187), fun _ h => h⟩, fun _ h9 => absurd h9 List.not_mem_nil⟩⟩
theorem fl_X5_105 {G : Cx} {nL fr lc : Nat} {cc : ByteArray} {ret : Option FieldType} {nm : String} (hF : FX G cc nL RX5 ret nm fr lc) : ∀ c ∈ [2, 3], GF G RX5 105 c 9 := by
  obtain ⟨⟨p, l, e, R, s, m, args, below, meth, c0⟩, A, D, dA, mi⟩ := G
  obtain ⟨hx, hb, hml, hown, hts, hr, hlk, hK, hnm, hfr, hlc⟩ := hF
  exact List.forall_mem_cons.mpr ⟨⟨RX2, TX2, 13, "StoryColumns$Block", rfl, in_X2, Nat.le_of_ble_eq_true rfl, Or.inl (hts _ q212), fun _ h => h⟩, List.forall_mem_cons.mpr ⟨⟨RX3, TX3, 14, "StoryColumns$Block", rfl, in_X3, Nat.le_of_ble_eq_true rfl, Or.inl (hts _ q212), fun _ h => h⟩, fun _ h9 => absurd h9 List.not_mem_nil⟩⟩
def fX5_pictures_J66 (r15 : Option Nat → Int32 → Option Nat → Mp → Nat → Rs Int32) (l0 : Option Nat) (l2 : Option Nat) (s0 : Int32) (s1 : Int32) (M : Mp) (z : Nat) : Rs Int32 := r15 l0 (s0 + s1) l2 M z

theorem gX5_pictures_J66 {G : Cx} {F : Option Value × Mp × Nat}  {r15 : Option Nat → Int32 → Option Nat → Mp → Nat → Rs Int32}(hF : FX G cX5_pictures 4 RX5 (Option.some Jvm.ClassFile.FieldType.int) "pictures" 3 61) (hr15 : ∀ l0 l1 l2 M z, SK G F 4 eI 15 [some (va_rf l0), some (.int l1), some (va_rf l2), none] [] M z (r15 l0 l1 l2 M z)) (l0 : Option Nat) (l2 : Option Nat) (s0 : Int32) (s1 : Int32) (M : Mp) (z : Nat) : SK G F 4 eI 66 [some (va_rf l0), none, some (va_rf l2), none] [.int s1, .int s0] M z (fX5_pictures_J66 r15 l0 l2 s0 s1 M z) := by
  unfold fX5_pictures_J66
  refine s_iadd (pc := 66) hF dX5_pictures_66 ?_
  refine s_istore_n (L9 := [some (va_rf l0), some (.int (s0 + s1)), some (va_rf l2), none]) (pc := 67) hF dX5_pictures_67 rfl (Nat.le_of_ble_eq_true rfl) rfl ?_
  refine s_goto (pc := 68) hF 15 dX5_pictures_68 rfl ?_
  exact SK.sb (hr15 l0 (s0 + s1) l2 M z) ⟨rfl, ⟨rfl, ⟨rfl, trivial⟩⟩⟩

def fX5_pictures_L15 : Nat → Option Nat → Int32 → Option Nat → Mp → Nat → Rs Int32
  | 0, _, _, _, _, _ => none
  | fu + 1, l0, l1, l2, M, z => if ckc M l2 [12] = true then
  (cb (fJ3_hasNext l2 M z) z fun v1 M2 z3 =>
if v1 = 0 then
  (some (l1, M2, 0, 0))
else
  (if ckc M2 l2 [12] = true then
  (cb (fJ3_next l2 M2 z3) z3 fun v4 M5 z6 =>
if cst M5 v4 [2, 3] = true then
  ((gi M5 v4 [2, 3] 2).bind fun v7 =>
if v7 = (2 : Int32) then
  ((gr M5 l0 [5] 0).bind fun v8 =>
if v8 = none then
  (fX5_pictures_J66 (fX5_pictures_L15 fu) l0 l2 l1 (0 : Int32) M5 z6)
else
  ((gr M5 v4 [2, 3] 9).bind fun v9 =>
(gr M5 l0 [5] 0).bind fun v10 =>
if v9 = v10 then
  (fX5_pictures_J66 (fX5_pictures_L15 fu) l0 l2 l1 (1 : Int32) M5 z6)
else
  (fX5_pictures_J66 (fX5_pictures_L15 fu) l0 l2 l1 (0 : Int32) M5 z6)))
else
  (fX5_pictures_J66 (fX5_pictures_L15 fu) l0 l2 l1 (0 : Int32) M5 z6))
else none)
else none))
else none

theorem gX5_pictures_L15 {G : Cx} {F : Option Value × Mp × Nat} (hF : FX G cX5_pictures 4 RX5 (Option.some Jvm.ClassFile.FieldType.int) "pictures" 3 61) : ∀ (fu : Nat) (l0 : Option Nat) (l1 : Int32) (l2 : Option Nat) (M : Mp) (z : Nat), SK G F 4 eI 15 [some (va_rf l0), some (.int l1), some (va_rf l2), none] [] M z (fX5_pictures_L15 fu l0 l1 l2 M z) := by
  intro fu
  induction fu with
  | zero => intros; exact SK.fail
  | succ fu ih =>
    intro l0 l1 l2 M z
    rw [fX5_pictures_L15]
    refine s_aload_n (pc := 15) hF dX5_pictures_15 rfl rfl ?_
    refine s_callF (pc := 16) (As := []) (st := []) (stf := fun r9 => .int r9 :: []) (x := ⟨"java/util/Iterator", "hasNext", "()Z"⟩) hF (mJ3_hasNext l2) cw_J3_hasNext rfl ⟨by decide, by decide⟩ q820 q325 n_q300 n_q299 n_q326 (List.forall_mem_cons.mpr ⟨⟨(RJ3, TJ3, 4), rfl, q323, n_q324, n_q322⟩, fun _ h9 => absurd h9 List.not_mem_nil⟩) rfl ⟨Nat.le_of_ble_eq_true rfl, Nat.le_of_ble_eq_true rfl⟩ ⟨trivial, Nat.le_of_ble_eq_true rfl⟩ dX5_pictures_16 rfl (fun _ => rfl) (fun v1 M2 z3 => ?_)
    refine s_if_eq (pc := 21) hF 71 dX5_pictures_21 rfl ?_ ?_
    · refine s_iload_n (pc := 71) hF dX5_pictures_71 rfl rfl ?_
      exact s_iret (pc := 72) hF dX5_pictures_72
    · refine s_aload_n (pc := 24) hF dX5_pictures_24 rfl rfl ?_
      refine s_callF (pc := 25) (As := []) (st := []) (stf := fun r9 => va_rf r9 :: []) (x := ⟨"java/util/Iterator", "next", "()Ljava/lang/Object;"⟩) hF (mJ3_next l2) cw_J3_next rfl ⟨by decide, by decide⟩ q822 q372 n_q331 n_q330 n_q373 (List.forall_mem_cons.mpr ⟨⟨(RJ3, TJ3, 4), rfl, q370, n_q371, n_q322⟩, fun _ h9 => absurd h9 List.not_mem_nil⟩) rfl ⟨Nat.le_of_ble_eq_true rfl, Nat.le_of_ble_eq_true rfl⟩ ⟨trivial, Nat.le_of_ble_eq_true rfl⟩ dX5_pictures_25 rfl (fun _ => rfl) (fun v4 M5 z6 => ?_)
      refine s_cast (pc := 30) hF q740 (List.forall_mem_cons.mpr ⟨⟨(RX2, TX2, 13), rfl, Or.inl rfl⟩, List.forall_mem_cons.mpr ⟨⟨(RX3, TX3, 14), rfl, Or.inr n_q1359⟩, fun _ h9 => absurd h9 List.not_mem_nil⟩⟩) dX5_pictures_30 ?_
      refine s_astore_n (L9 := [some (va_rf l0), some (.int l1), some (va_rf l2), some (va_rf v4)]) (pc := 33) hF dX5_pictures_33 rfl (Nat.le_of_ble_eq_true rfl) rfl ?_
      refine s_iload_n (pc := 34) hF dX5_pictures_34 rfl rfl ?_
      refine s_aload_n (pc := 35) hF dX5_pictures_35 rfl rfl ?_
      refine s_geti (pc := 36) hF (fl_X5_102 hF) dX5_pictures_36 (fun v7 => ?_)
      refine s_iconst (pc := 39) hF dX5_pictures_39 (2 : Int32) (by decide) ?_
      refine s_icmp_ne (pc := 40) hF 65 dX5_pictures_40 rfl ?_ ?_
      · refine s_iconst (pc := 65) hF dX5_pictures_65 (0 : Int32) (by decide) ?_
        exact SK.sb (gX5_pictures_J66 hF ih l0 l2 l1 (0 : Int32) M5 z6) ⟨rfl, ⟨rfl, trivial⟩⟩
      · refine s_aload_n (pc := 43) hF dX5_pictures_43 rfl rfl ?_
        refine s_getr (pc := 44) hF (fl_X5_24 hF) dX5_pictures_44 (fun v8 => ?_)
        refine s_ifnull (pc := 47) hF 65 dX5_pictures_47 rfl ?_ ?_
        · refine s_iconst (pc := 65) hF dX5_pictures_65 (0 : Int32) (by decide) ?_
          exact SK.sb (gX5_pictures_J66 hF ih l0 l2 l1 (0 : Int32) M5 z6) ⟨rfl, ⟨rfl, trivial⟩⟩
        · refine s_aload_n (pc := 50) hF dX5_pictures_50 rfl rfl ?_
          refine s_getr (pc := 51) hF (fl_X5_105 hF) dX5_pictures_51 (fun v9 => ?_)
          refine s_aload_n (pc := 54) hF dX5_pictures_54 rfl rfl ?_
          refine s_getr (pc := 55) hF (fl_X5_24 hF) dX5_pictures_55 (fun v10 => ?_)
          refine s_acmp_ne (pc := 58) hF 65 dX5_pictures_58 rfl ?_ ?_
          · refine s_iconst (pc := 65) hF dX5_pictures_65 (0 : Int32) (by decide) ?_
            exact SK.sb (gX5_pictures_J66 hF ih l0 l2 l1 (0 : Int32) M5 z6) ⟨rfl, ⟨rfl, trivial⟩⟩
          · refine s_iconst (pc := 61) hF dX5_pictures_61 (1 : Int32) (by decide) ?_
            refine s_goto (pc := 62) hF 66 dX5_pictures_62 rfl ?_
            exact SK.sb (gX5_pictures_J66 hF ih l0 l2 l1 (1 : Int32) M5 z6) ⟨rfl, ⟨rfl, trivial⟩⟩
def fX5_pictures (a0 : Option Nat) (M : Mp) (z : Nat) : Rs Int32 := (gr M a0 [5] 7).bind fun v1 =>
(gr M v1 [0] 0).bind fun v2 =>
if ckc M v2 [11] = true then
  (cb (fJ2_iterator v2 M z) z fun v3 M4 z5 =>
fX5_pictures_L15 FU a0 (0 : Int32) v3 M4 z5)
else none
theorem gX5_pictures {G : Cx} {F : Option Value × Mp × Nat} (hF : FX G cX5_pictures 4 RX5 (Option.some Jvm.ClassFile.FieldType.int) "pictures" 3 61) (a0 : Option Nat) (M : Mp) (z : Nat) : SK G F 4 eI 0 [some (va_rf a0), none, none, none] [] M z (fX5_pictures a0 M z) := by
  unfold fX5_pictures
  refine s_iconst (pc := 0) hF dX5_pictures_0 (0 : Int32) (by decide) ?_
  refine s_istore_n (L9 := [some (va_rf a0), some (.int (0 : Int32)), none, none]) (pc := 1) hF dX5_pictures_1 rfl (Nat.le_of_ble_eq_true rfl) rfl ?_
  refine s_aload_n (pc := 2) hF dX5_pictures_2 rfl rfl ?_
  refine s_getr (pc := 3) hF (fl_X5_3 hF) dX5_pictures_3 (fun v1 => ?_)
  refine s_getr (pc := 6) hF (fl_X5_99 hF) dX5_pictures_6 (fun v2 => ?_)
  refine s_callF (pc := 9) (As := []) (st := []) (stf := fun r9 => va_rf r9 :: []) (x := ⟨"java/util/List", "iterator", "()Ljava/util/Iterator;"⟩) hF (mJ2_iterator v2) cw_J2_iterator rfl ⟨by decide, by decide⟩ q818 q275 n_q272 n_q271 n_q276 (List.forall_mem_cons.mpr ⟨⟨(RJ2, TJ2, 3), rfl, q273, n_q274, n_q155⟩, fun _ h9 => absurd h9 List.not_mem_nil⟩) rfl ⟨Nat.le_of_ble_eq_true rfl, Nat.le_of_ble_eq_true rfl⟩ ⟨trivial, Nat.le_of_ble_eq_true rfl⟩ dX5_pictures_9 rfl (fun _ => rfl) (fun v3 M4 z5 => ?_)
  refine s_astore_n (L9 := [some (va_rf a0), some (.int (0 : Int32)), some (va_rf v3), none]) (pc := 14) hF dX5_pictures_14 rfl (Nat.le_of_ble_eq_true rfl) rfl ?_
  exact SK.sb (gX5_pictures_L15 hF FU a0 (0 : Int32) v3 M4 z5) ⟨rfl, ⟨rfl, ⟨rfl, trivial⟩⟩⟩
theorem mX5_pictures (a0 : Option Nat) : MT yX5_pictures cX5_pictures 4 (Option.some Jvm.ClassFile.FieldType.int) 3 61 eI [va_rf a0] (fX5_pictures a0) :=
  MT.of (L0 := [some (va_rf a0), none, none, none]) (by decide) ⟨ct _, trivial⟩ (Nat.le_of_ble_eq_true rfl) rfl (fun _ _ hF M z => gX5_pictures hF a0 M z)

def fX0_numberOf (a0 : Option Nat) (M : Mp) (z : Nat) : Rs Int32 := if a0 = none then
  (some ((-9 : Int32), M, 0, 0))
else
  (if ckc M a0 [5] = true then
  (cb (fX5_number a0 M z) z fun v1 M2 z3 =>
some (v1, M2, 0, 0))
else none)
theorem gX0_numberOf {G : Cx} {F : Option Value × Mp × Nat} (hF : FX G cX0_numberOf 1 RX0 (Option.some Jvm.ClassFile.FieldType.int) "numberOf" 6 124) (a0 : Option Nat) (M : Mp) (z : Nat) : SK G F 1 eI 0 [some (va_rf a0)] [] M z (fX0_numberOf a0 M z) := by
  unfold fX0_numberOf
  refine s_aload_n (pc := 0) hF dX0_numberOf_0 rfl rfl ?_
  refine s_ifnonnull (pc := 1) hF 9 dX0_numberOf_1 rfl ?_ ?_
  · refine s_aload_n (pc := 9) hF dX0_numberOf_9 rfl rfl ?_
    refine s_callV (pc := 10) (As := []) (st := []) (stf := fun r9 => .int r9 :: []) hF (mX5_number a0) cw_X5_number q786 q787 (List.forall_mem_cons.mpr ⟨⟨(RX5, TX5, 8), rfl, q788⟩, fun _ h9 => absurd h9 List.not_mem_nil⟩) rfl ⟨Nat.le_of_ble_eq_true rfl, Nat.le_of_ble_eq_true rfl⟩ ⟨trivial, Nat.le_of_ble_eq_true rfl⟩ dX0_numberOf_10 rfl (fun _ => rfl) (fun v1 M2 z3 => ?_)
    exact s_iret (pc := 13) hF dX0_numberOf_13
  · refine s_bipush (pc := 4) hF dX0_numberOf_4 (-9 : Int32) (by decide) ?_
    refine s_goto (pc := 6) hF 13 dX0_numberOf_6 rfl ?_
    exact s_iret (pc := 13) hF dX0_numberOf_13
theorem mX0_numberOf (a0 : Option Nat) : MT yX0_numberOf cX0_numberOf 1 (Option.some Jvm.ClassFile.FieldType.int) 6 124 eI [va_rf a0] (fX0_numberOf a0) :=
  MT.of (L0 := [some (va_rf a0)]) (by decide) ⟨ct _, trivial⟩ (Nat.le_of_ble_eq_true rfl) rfl (fun _ _ hF M z => gX0_numberOf hF a0 M z)
