set_option maxRecDepth 100000
theorem pl_X1_153 {G : Cx} {nL fr lc : Nat} {cc : ByteArray} {ret : Option FieldType} {nm : String} (hF : FX G cc nL RX1 ret nm fr lc) (x9 : Int32) : ∀ c ∈ [1], PF G RX1 nm 153 c 21 (.int x9) := by
  obtain ⟨⟨p, l, e, R, s, m, args, below, meth, c0⟩, A, D, dA, mi⟩ := G
  obtain ⟨hx, hb, hml, hown, hts, hr, hlk, hK, hnm, hfr, hlc⟩ := hF
  exact List.forall_mem_cons.mpr ⟨⟨RX1, TX1, 34, "StoryColumnsModel", tyX1 21, rfl, in_X1, Nat.le_of_ble_eq_true rfl, Or.inl ⟨(hts _ q1059), Or.inl rfl⟩, fun _ h => h, tyX1_ok 21 (Nat.le_of_ble_eq_true rfl), rfl, rfl, ap_1 hts hK⟩, fun _ h9 => absurd h9 List.not_mem_nil⟩
theorem fl_X1_70 {G : Cx} {nL fr lc : Nat} {cc : ByteArray} {ret : Option FieldType} {nm : String} (hF : FX G cc nL RX1 ret nm fr lc) : ∀ c ∈ [1], GF G RX1 70 c 23 := by
  obtain ⟨⟨p, l, e, R, s, m, args, below, meth, c0⟩, A, D, dA, mi⟩ := G
  obtain ⟨hx, hb, hml, hown, hts, hr, hlk, hK, hnm, hfr, hlc⟩ := hF
  exact List.forall_mem_cons.mpr ⟨⟨RX1, TX1, 34, "StoryColumnsModel", rfl, in_X1, Nat.le_of_ble_eq_true rfl, Or.inl (hts _ q1061), fun _ h => h⟩, fun _ h9 => absurd h9 List.not_mem_nil⟩
theorem fl_X1_52 {G : Cx} {nL fr lc : Nat} {cc : ByteArray} {ret : Option FieldType} {nm : String} (hF : FX G cc nL RX1 ret nm fr lc) : ∀ c ∈ [1], GF G RX1 52 c 16 := by
  obtain ⟨⟨p, l, e, R, s, m, args, below, meth, c0⟩, A, D, dA, mi⟩ := G
  obtain ⟨hx, hb, hml, hown, hts, hr, hlk, hK, hnm, hfr, hlc⟩ := hF
  exact List.forall_mem_cons.mpr ⟨⟨RX1, TX1, 34, "StoryColumnsModel", rfl, in_X1, Nat.le_of_ble_eq_true rfl, Or.inl (hts _ q1054), fun _ h => h⟩, fun _ h9 => absurd h9 List.not_mem_nil⟩
theorem fl_X1_67 {G : Cx} {nL fr lc : Nat} {cc : ByteArray} {ret : Option FieldType} {nm : String} (hF : FX G cc nL RX1 ret nm fr lc) : ∀ c ∈ [1], GF G RX1 67 c 22 := by
  obtain ⟨⟨p, l, e, R, s, m, args, below, meth, c0⟩, A, D, dA, mi⟩ := G
  obtain ⟨hx, hb, hml, hown, hts, hr, hlk, hK, hnm, hfr, hlc⟩ := hF
  exact List.forall_mem_cons.mpr ⟨⟨RX1, TX1, 34, "StoryColumnsModel", rfl, in_X1, Nat.le_of_ble_eq_true rfl, Or.inl (hts _ q1060), fun _ h => h⟩, fun _ h9 => absurd h9 List.not_mem_nil⟩
theorem fl_X1_153 {G : Cx} {nL fr lc : Nat} {cc : ByteArray} {ret : Option FieldType} {nm : String} (hF : FX G cc nL RX1 ret nm fr lc) : ∀ c ∈ [1], GF G RX1 153 c 21 := by
  obtain ⟨⟨p, l, e, R, s, m, args, below, meth, c0⟩, A, D, dA, mi⟩ := G
  obtain ⟨hx, hb, hml, hown, hts, hr, hlk, hK, hnm, hfr, hlc⟩ := hF
  exact List.forall_mem_cons.mpr ⟨⟨RX1, TX1, 34, "StoryColumnsModel", rfl, in_X1, Nat.le_of_ble_eq_true rfl, Or.inl (hts _ q1059), fun _ h => h⟩, fun _ h9 => absurd h9 List.not_mem_nil⟩
theorem cw_X1_joins : CWm yX1_joins cX1_joins 3 (Option.some Jvm.ClassFile.FieldType.boolean) 0 := ⟨q1245, q63, by decide +kernel, by decide +kernel, by decide +kernel⟩
theorem cw_X1_comesUnder : CWm yX1_comesUnder cX1_comesUnder 4 (Option.none : Option Jvm.ClassFile.FieldType) 2 := ⟨q1233, q63, by decide +kernel, by decide +kernel, by decide +kernel⟩
def fX1_findStories_J314 (r224 : Option Nat → Int32 → Mp → Nat → Rs Unit) (l0 : Option Nat) (l2 : Int32) (s0 : Option Nat) (s1 : Int32) (s2 : Int32) (M : Mp) (z : Nat) : Rs Unit := (si M 0 s0 s1 s2).bind fun M1 =>
r224 l0 (l2 + 1) M1 z

theorem gX1_findStories_J314 {G : Cx} {F : Option Value × Mp × Nat}  {r224 : Option Nat → Int32 → Mp → Nat → Rs Unit}(hF : FX G cX1_findStories 4 RX1 (Option.none : Option Jvm.ClassFile.FieldType) "findStories" 4 97) (hr224 : ∀ l0 l2 M z, SK G F 4 eV 224 [some (va_rf l0), none, some (.int l2), none] [] M z (r224 l0 l2 M z)) (l0 : Option Nat) (l2 : Int32) (s0 : Option Nat) (s1 : Int32) (s2 : Int32) (M : Mp) (z : Nat) : SK G F 4 eV 314 [some (va_rf l0), none, some (.int l2), none] [.int s2, .int s1, va_rf s0] M z (fX1_findStories_J314 r224 l0 l2 s0 s1 s2 M z) := by
  unfold fX1_findStories_J314
  refine s_iast (pc := 314) hF dX1_findStories_314 (fun M1 => ?_)
  refine s_iinc (v := l2 + 1) (L9 := [some (va_rf l0), none, some (.int (l2 + 1)), none]) (pc := 315) hF dX1_findStories_315 rfl rfl (Nat.le_of_ble_eq_true rfl) rfl ?_
  refine s_goto (pc := 318) hF 224 dX1_findStories_318 rfl ?_
  exact SK.sb (hr224 l0 (l2 + 1) M1 z) ⟨rfl, ⟨rfl, trivial⟩⟩

def fX1_findStories_J272 (r224 : Option Nat → Int32 → Mp → Nat → Rs Unit) (l0 : Option Nat) (l2 : Int32) (s0 : Int32) (M : Mp) (z : Nat) : Rs Unit := (gr M l0 [1] 23).bind fun v1 =>
if s0 = (-9 : Int32) then
  ((gr M l0 [1] 2).bind fun v2 =>
(ai M 0 v2 l2).bind fun v3 =>
if v3 = (2 : Int32) then
  (fX1_findStories_J314 r224 l0 l2 v1 l2 (-9 : Int32) M z)
else
  ((gr M l0 [1] 23).bind fun v4 =>
(ai M 0 v4 l2).bind fun v5 =>
fX1_findStories_J314 r224 l0 l2 v1 l2 v5 M z))
else
  ((gr M l0 [1] 23).bind fun v6 =>
(ai M 0 v6 s0).bind fun v7 =>
fX1_findStories_J314 r224 l0 l2 v1 l2 v7 M z)

theorem gX1_findStories_J272 {G : Cx} {F : Option Value × Mp × Nat}  {r224 : Option Nat → Int32 → Mp → Nat → Rs Unit}(hF : FX G cX1_findStories 4 RX1 (Option.none : Option Jvm.ClassFile.FieldType) "findStories" 4 97) (hr224 : ∀ l0 l2 M z, SK G F 4 eV 224 [some (va_rf l0), none, some (.int l2), none] [] M z (r224 l0 l2 M z)) (l0 : Option Nat) (l2 : Int32) (s0 : Int32) (M : Mp) (z : Nat) : SK G F 4 eV 272 [some (va_rf l0), none, some (.int l2), none] [.int s0] M z (fX1_findStories_J272 r224 l0 l2 s0 M z) := by
  unfold fX1_findStories_J272
  refine s_istore_n (L9 := [some (va_rf l0), none, some (.int l2), some (.int s0)]) (pc := 272) hF dX1_findStories_272 rfl (Nat.le_of_ble_eq_true rfl) rfl ?_
  refine s_aload_n (pc := 273) hF dX1_findStories_273 rfl rfl ?_
  refine s_getr (pc := 274) hF (fl_X1_70 hF) dX1_findStories_274 (fun v1 => ?_)
  refine s_iload_n (pc := 277) hF dX1_findStories_277 rfl rfl ?_
  refine s_iload_n (pc := 278) hF dX1_findStories_278 rfl rfl ?_
  refine s_bipush (pc := 279) hF dX1_findStories_279 (-9 : Int32) (by decide) ?_
  refine s_icmp_eq (pc := 281) hF 293 dX1_findStories_281 rfl ?_ ?_
  · refine s_aload_n (pc := 293) hF dX1_findStories_293 rfl rfl ?_
    refine s_getr (pc := 294) hF (fl_X1_13 hF) dX1_findStories_294 (fun v2 => ?_)
    refine s_iload_n (pc := 297) hF dX1_findStories_297 rfl rfl ?_
    refine s_iald (pc := 298) hF dX1_findStories_298 (fun v3 => ?_)
    refine s_iconst (pc := 299) hF dX1_findStories_299 (2 : Int32) (by decide) ?_
    refine s_icmp_ne (pc := 300) hF 308 dX1_findStories_300 rfl ?_ ?_
    · refine s_aload_n (pc := 308) hF dX1_findStories_308 rfl rfl ?_
      refine s_getr (pc := 309) hF (fl_X1_70 hF) dX1_findStories_309 (fun v4 => ?_)
      refine s_iload_n (pc := 312) hF dX1_findStories_312 rfl rfl ?_
      refine s_iald (pc := 313) hF dX1_findStories_313 (fun v5 => ?_)
      exact SK.sb (gX1_findStories_J314 hF hr224 l0 l2 v1 l2 v5 M z) ⟨rfl, ⟨rfl, trivial⟩⟩
    · refine s_bipush (pc := 303) hF dX1_findStories_303 (-9 : Int32) (by decide) ?_
      refine s_goto (pc := 305) hF 314 dX1_findStories_305 rfl ?_
      exact SK.sb (gX1_findStories_J314 hF hr224 l0 l2 v1 l2 (-9 : Int32) M z) ⟨rfl, ⟨rfl, trivial⟩⟩
  · refine s_aload_n (pc := 284) hF dX1_findStories_284 rfl rfl ?_
    refine s_getr (pc := 285) hF (fl_X1_70 hF) dX1_findStories_285 (fun v6 => ?_)
    refine s_iload_n (pc := 288) hF dX1_findStories_288 rfl rfl ?_
    refine s_iald (pc := 289) hF dX1_findStories_289 (fun v7 => ?_)
    refine s_goto (pc := 290) hF 314 dX1_findStories_290 rfl ?_
    exact SK.sb (gX1_findStories_J314 hF hr224 l0 l2 v1 l2 v7 M z) ⟨rfl, ⟨rfl, trivial⟩⟩

def fX1_findStories_L224 : Nat → Option Nat → Int32 → Mp → Nat → Rs Unit
  | 0, _, _, _, _ => none
  | fu + 1, l0, l2, M, z => (gi M l0 [1] 0).bind fun v1 =>
if l2 < v1 then
  ((gr M l0 [1] 2).bind fun v2 =>
(ai M 0 v2 l2).bind fun v3 =>
if v3 = (1 : Int32) then
  ((gr M l0 [1] 17).bind fun v8 =>
(ai M 0 v8 l2).bind fun v9 =>
fX1_findStories_J272 (fX1_findStories_L224 fu) l0 l2 v9 M z)
else
  ((gr M l0 [1] 2).bind fun v4 =>
(ai M 0 v4 l2).bind fun v5 =>
if v5 = (2 : Int32) then
  ((gr M l0 [1] 16).bind fun v6 =>
(ai M 0 v6 l2).bind fun v7 =>
fX1_findStories_J272 (fX1_findStories_L224 fu) l0 l2 v7 M z)
else
  (fX1_findStories_J272 (fX1_findStories_L224 fu) l0 l2 (-9 : Int32) M z)))
else
  (some ((), M, 0, 0))

theorem gX1_findStories_L224 {G : Cx} {F : Option Value × Mp × Nat} (hF : FX G cX1_findStories 4 RX1 (Option.none : Option Jvm.ClassFile.FieldType) "findStories" 4 97) : ∀ (fu : Nat) (l0 : Option Nat) (l2 : Int32) (M : Mp) (z : Nat), SK G F 4 eV 224 [some (va_rf l0), none, some (.int l2), none] [] M z (fX1_findStories_L224 fu l0 l2 M z) := by
  intro fu
  induction fu with
  | zero => intros; exact SK.fail
  | succ fu ih =>
    intro l0 l2 M z
    rw [fX1_findStories_L224]
    refine s_iload_n (pc := 224) hF dX1_findStories_224 rfl rfl ?_
    refine s_aload_n (pc := 225) hF dX1_findStories_225 rfl rfl ?_
    refine s_geti (pc := 226) hF (fl_X1_98 hF) dX1_findStories_226 (fun v1 => ?_)
    refine s_icmp_ge (pc := 229) hF 321 dX1_findStories_229 rfl ?_ ?_
    · exact s_vret (pc := 321) hF dX1_findStories_321
    · refine s_aload_n (pc := 232) hF dX1_findStories_232 rfl rfl ?_
      refine s_getr (pc := 233) hF (fl_X1_13 hF) dX1_findStories_233 (fun v2 => ?_)
      refine s_iload_n (pc := 236) hF dX1_findStories_236 rfl rfl ?_
      refine s_iald (pc := 237) hF dX1_findStories_237 (fun v3 => ?_)
      refine s_iconst (pc := 238) hF dX1_findStories_238 (1 : Int32) (by decide) ?_
      refine s_icmp_ne (pc := 239) hF 251 dX1_findStories_239 rfl ?_ ?_
      · refine s_aload_n (pc := 251) hF dX1_findStories_251 rfl rfl ?_
        refine s_getr (pc := 252) hF (fl_X1_13 hF) dX1_findStories_252 (fun v4 => ?_)
        refine s_iload_n (pc := 255) hF dX1_findStories_255 rfl rfl ?_
        refine s_iald (pc := 256) hF dX1_findStories_256 (fun v5 => ?_)
        refine s_iconst (pc := 257) hF dX1_findStories_257 (2 : Int32) (by decide) ?_
        refine s_icmp_ne (pc := 258) hF 270 dX1_findStories_258 rfl ?_ ?_
        · refine s_bipush (pc := 270) hF dX1_findStories_270 (-9 : Int32) (by decide) ?_
          exact SK.sb (gX1_findStories_J272 hF ih l0 l2 (-9 : Int32) M z) ⟨rfl, ⟨rfl, trivial⟩⟩
        · refine s_aload_n (pc := 261) hF dX1_findStories_261 rfl rfl ?_
          refine s_getr (pc := 262) hF (fl_X1_52 hF) dX1_findStories_262 (fun v6 => ?_)
          refine s_iload_n (pc := 265) hF dX1_findStories_265 rfl rfl ?_
          refine s_iald (pc := 266) hF dX1_findStories_266 (fun v7 => ?_)
          refine s_goto (pc := 267) hF 272 dX1_findStories_267 rfl ?_
          exact SK.sb (gX1_findStories_J272 hF ih l0 l2 v7 M z) ⟨rfl, ⟨rfl, trivial⟩⟩
      · refine s_aload_n (pc := 242) hF dX1_findStories_242 rfl rfl ?_
        refine s_getr (pc := 243) hF (fl_X1_55 hF) dX1_findStories_243 (fun v8 => ?_)
        refine s_iload_n (pc := 246) hF dX1_findStories_246 rfl rfl ?_
        refine s_iald (pc := 247) hF dX1_findStories_247 (fun v9 => ?_)
        refine s_goto (pc := 248) hF 272 dX1_findStories_248 rfl ?_
        exact SK.sb (gX1_findStories_J272 hF ih l0 l2 v9 M z) ⟨rfl, ⟨rfl, trivial⟩⟩

def fX1_findStories_J216 (r128 : Option Nat → Int32 → Mp → Nat → Rs Unit) (l0 : Option Nat) (l2 : Int32) (M : Mp) (z : Nat) : Rs Unit := r128 l0 (l2 + 1) M z

theorem gX1_findStories_J216 {G : Cx} {F : Option Value × Mp × Nat}  {r128 : Option Nat → Int32 → Mp → Nat → Rs Unit}(hF : FX G cX1_findStories 4 RX1 (Option.none : Option Jvm.ClassFile.FieldType) "findStories" 4 97) (hr128 : ∀ l0 l2 M z, SK G F 4 eV 128 [some (va_rf l0), none, some (.int l2), none] [] M z (r128 l0 l2 M z)) (l0 : Option Nat) (l2 : Int32) (M : Mp) (z : Nat) : SK G F 4 eV 216 [some (va_rf l0), none, some (.int l2), none] [] M z (fX1_findStories_J216 r128 l0 l2 M z) := by
  unfold fX1_findStories_J216
  refine s_iinc (v := l2 + 1) (L9 := [some (va_rf l0), none, some (.int (l2 + 1)), none]) (pc := 216) hF dX1_findStories_216 rfl rfl (Nat.le_of_ble_eq_true rfl) rfl ?_
  refine s_goto (pc := 219) hF 128 dX1_findStories_219 rfl ?_
  exact SK.sb (hr128 l0 (l2 + 1) M z) ⟨rfl, ⟨rfl, trivial⟩⟩

def fX1_findStories_J186 (r128 : Option Nat → Int32 → Mp → Nat → Rs Unit) (l0 : Option Nat) (l2 : Int32) (M : Mp) (z : Nat) : Rs Unit := (gr M l0 [1] 22).bind fun v1 =>
(gi M l0 [1] 21).bind fun v2 =>
(si M 0 v1 v2 l2).bind fun M3 =>
(gr M3 l0 [1] 23).bind fun v4 =>
(gi M3 l0 [1] 21).bind fun v5 =>
(si M3 0 v4 l2 v5).bind fun M6 =>
(gi M6 l0 [1] 21).bind fun v7 =>
(pu M6 l0 [1] 21 (.int (v7 + (1 : Int32)))).bind fun M8 =>
fX1_findStories_J216 r128 l0 l2 M8 z

theorem gX1_findStories_J186 {G : Cx} {F : Option Value × Mp × Nat}  {r128 : Option Nat → Int32 → Mp → Nat → Rs Unit}(hF : FX G cX1_findStories 4 RX1 (Option.none : Option Jvm.ClassFile.FieldType) "findStories" 4 97) (hr128 : ∀ l0 l2 M z, SK G F 4 eV 128 [some (va_rf l0), none, some (.int l2), none] [] M z (r128 l0 l2 M z)) (l0 : Option Nat) (l2 : Int32) (M : Mp) (z : Nat) : SK G F 4 eV 186 [some (va_rf l0), none, some (.int l2), none] [] M z (fX1_findStories_J186 r128 l0 l2 M z) := by
  unfold fX1_findStories_J186
  refine s_aload_n (pc := 186) hF dX1_findStories_186 rfl rfl ?_
  refine s_getr (pc := 187) hF (fl_X1_67 hF) dX1_findStories_187 (fun v1 => ?_)
  refine s_aload_n (pc := 190) hF dX1_findStories_190 rfl rfl ?_
  refine s_geti (pc := 191) hF (fl_X1_153 hF) dX1_findStories_191 (fun v2 => ?_)
  refine s_iload_n (pc := 194) hF dX1_findStories_194 rfl rfl ?_
  refine s_iast (pc := 195) hF dX1_findStories_195 (fun M3 => ?_)
  refine s_aload_n (pc := 196) hF dX1_findStories_196 rfl rfl ?_
  refine s_getr (pc := 197) hF (fl_X1_70 hF) dX1_findStories_197 (fun v4 => ?_)
  refine s_iload_n (pc := 200) hF dX1_findStories_200 rfl rfl ?_
  refine s_aload_n (pc := 201) hF dX1_findStories_201 rfl rfl ?_
  refine s_geti (pc := 202) hF (fl_X1_153 hF) dX1_findStories_202 (fun v5 => ?_)
  refine s_iast (pc := 205) hF dX1_findStories_205 (fun M6 => ?_)
  refine s_aload_n (pc := 206) hF dX1_findStories_206 rfl rfl ?_
  refine s_dup (pc := 207) hF dX1_findStories_207 (ct _) ?_
  refine s_geti (pc := 208) hF (fl_X1_153 hF) dX1_findStories_208 (fun v7 => ?_)
  refine s_iconst (pc := 211) hF dX1_findStories_211 (1 : Int32) (by decide) ?_
  refine s_iadd (pc := 212) hF dX1_findStories_212 ?_
  refine s_put (pc := 213) hF (pl_X1_153 hF _) dX1_findStories_213 (fun M8 => ?_)
  exact SK.sb (gX1_findStories_J216 hF hr128 l0 l2 M8 z) ⟨rfl, ⟨rfl, trivial⟩⟩

def fX1_findStories_J173 (r128 : Option Nat → Int32 → Mp → Nat → Rs Unit) (l0 : Option Nat) (l2 : Int32) (l3 : Int32) (M : Mp) (z : Nat) : Rs Unit := if l3 = 0 then
  ((gr M l0 [1] 2).bind fun v1 =>
(ai M 0 v1 l2).bind fun v2 =>
if v2 = 0 then
  (fX1_findStories_J186 r128 l0 l2 M z)
else
  (fX1_findStories_J216 r128 l0 l2 M z))
else
  (fX1_findStories_J186 r128 l0 l2 M z)

theorem gX1_findStories_J173 {G : Cx} {F : Option Value × Mp × Nat}  {r128 : Option Nat → Int32 → Mp → Nat → Rs Unit}(hF : FX G cX1_findStories 4 RX1 (Option.none : Option Jvm.ClassFile.FieldType) "findStories" 4 97) (hr128 : ∀ l0 l2 M z, SK G F 4 eV 128 [some (va_rf l0), none, some (.int l2), none] [] M z (r128 l0 l2 M z)) (l0 : Option Nat) (l2 : Int32) (l3 : Int32) (M : Mp) (z : Nat) : SK G F 4 eV 173 [some (va_rf l0), none, some (.int l2), some (.int l3)] [] M z (fX1_findStories_J173 r128 l0 l2 l3 M z) := by
  unfold fX1_findStories_J173
  refine s_iload_n (pc := 173) hF dX1_findStories_173 rfl rfl ?_
  refine s_if_ne (pc := 174) hF 186 dX1_findStories_174 rfl ?_ ?_
  · exact SK.sb (gX1_findStories_J186 hF hr128 l0 l2 M z) ⟨rfl, ⟨rfl, trivial⟩⟩
  · refine s_aload_n (pc := 177) hF dX1_findStories_177 rfl rfl ?_
    refine s_getr (pc := 178) hF (fl_X1_13 hF) dX1_findStories_178 (fun v1 => ?_)
    refine s_iload_n (pc := 181) hF dX1_findStories_181 rfl rfl ?_
    refine s_iald (pc := 182) hF dX1_findStories_182 (fun v2 => ?_)
    refine s_if_ne (pc := 183) hF 216 dX1_findStories_183 rfl ?_ ?_
    · exact SK.sb (gX1_findStories_J216 hF hr128 l0 l2 M z) ⟨rfl, ⟨rfl, trivial⟩⟩
    · exact SK.sb (gX1_findStories_J186 hF hr128 l0 l2 M z) ⟨rfl, ⟨rfl, trivial⟩⟩

def fX1_findStories_J162 (r128 : Option Nat → Int32 → Mp → Nat → Rs Unit) (l0 : Option Nat) (l2 : Int32) (s0 : Int32) (M : Mp) (z : Nat) : Rs Unit := if s0 = 0 then
  (fX1_findStories_J173 r128 l0 l2 s0 M z)
else
  (if ckc M l0 [1] = true then
  (cb (fX1_comesBehind l0 l2 l2 M z) z fun _ M2 z3 =>
fX1_findStories_J173 r128 l0 l2 s0 M2 z3)
else none)

theorem gX1_findStories_J162 {G : Cx} {F : Option Value × Mp × Nat}  {r128 : Option Nat → Int32 → Mp → Nat → Rs Unit}(hF : FX G cX1_findStories 4 RX1 (Option.none : Option Jvm.ClassFile.FieldType) "findStories" 4 97) (hr128 : ∀ l0 l2 M z, SK G F 4 eV 128 [some (va_rf l0), none, some (.int l2), none] [] M z (r128 l0 l2 M z)) (l0 : Option Nat) (l2 : Int32) (s0 : Int32) (M : Mp) (z : Nat) : SK G F 4 eV 162 [some (va_rf l0), none, some (.int l2), none] [.int s0] M z (fX1_findStories_J162 r128 l0 l2 s0 M z) := by
  unfold fX1_findStories_J162
  refine s_istore_n (L9 := [some (va_rf l0), none, some (.int l2), some (.int s0)]) (pc := 162) hF dX1_findStories_162 rfl (Nat.le_of_ble_eq_true rfl) rfl ?_
  refine s_iload_n (pc := 163) hF dX1_findStories_163 rfl rfl ?_
  refine s_if_eq (pc := 164) hF 173 dX1_findStories_164 rfl ?_ ?_
  · exact SK.sb (gX1_findStories_J173 hF hr128 l0 l2 s0 M z) ⟨rfl, ⟨rfl, ⟨rfl, trivial⟩⟩⟩
  · refine s_aload_n (pc := 167) hF dX1_findStories_167 rfl rfl ?_
    refine s_iload_n (pc := 168) hF dX1_findStories_168 rfl rfl ?_
    refine s_iload_n (pc := 169) hF dX1_findStories_169 rfl rfl ?_
    refine s_callV (pc := 170) (As := [.int l2, .int l2]) (st := []) (stf := fun r9 => []) hF (mX1_comesBehind l0 l2 l2) cw_X1_comesBehind q1234 q1236 (List.forall_mem_cons.mpr ⟨⟨(RX1, TX1, 34), rfl, qs36⟩, fun _ h9 => absurd h9 List.not_mem_nil⟩) rfl ⟨Nat.le_of_ble_eq_true rfl, Nat.le_of_ble_eq_true rfl⟩ ⟨trivial, Nat.le_of_ble_eq_true rfl⟩ dX1_findStories_170 rfl (fun _ => rfl) (fun v1 M2 z3 => ?_)
    exact SK.sb (gX1_findStories_J173 hF hr128 l0 l2 s0 M2 z3) ⟨rfl, ⟨rfl, ⟨rfl, trivial⟩⟩⟩

def fX1_findStories_L128 : Nat → Option Nat → Int32 → Mp → Nat → Rs Unit
  | 0, _, _, _, _ => none
  | fu + 1, l0, l2, M, z => (gi M l0 [1] 0).bind fun v1 =>
if l2 < v1 then
  ((gr M l0 [1] 2).bind fun v2 =>
(ai M 0 v2 l2).bind fun v3 =>
if v3 = (1 : Int32) then
  ((gr M l0 [1] 17).bind fun v4 =>
(ai M 0 v4 l2).bind fun v5 =>
if v5 = (-9 : Int32) then
  (fX1_findStories_J162 (fX1_findStories_L128 fu) l0 l2 (1 : Int32) M z)
else
  (fX1_findStories_J162 (fX1_findStories_L128 fu) l0 l2 (0 : Int32) M z))
else
  (fX1_findStories_J162 (fX1_findStories_L128 fu) l0 l2 (0 : Int32) M z))
else
  (fX1_findStories_L224 FU l0 (0 : Int32) M z)

theorem gX1_findStories_L128 {G : Cx} {F : Option Value × Mp × Nat} (hF : FX G cX1_findStories 4 RX1 (Option.none : Option Jvm.ClassFile.FieldType) "findStories" 4 97) : ∀ (fu : Nat) (l0 : Option Nat) (l2 : Int32) (M : Mp) (z : Nat), SK G F 4 eV 128 [some (va_rf l0), none, some (.int l2), none] [] M z (fX1_findStories_L128 fu l0 l2 M z) := by
  intro fu
  induction fu with
  | zero => intros; exact SK.fail
  | succ fu ih =>
    intro l0 l2 M z
    rw [fX1_findStories_L128]
    refine s_iload_n (pc := 128) hF dX1_findStories_128 rfl rfl ?_
    refine s_aload_n (pc := 129) hF dX1_findStories_129 rfl rfl ?_
    refine s_geti (pc := 130) hF (fl_X1_98 hF) dX1_findStories_130 (fun v1 => ?_)
    refine s_icmp_ge (pc := 133) hF 222 dX1_findStories_133 rfl ?_ ?_
    · refine s_iconst (pc := 222) hF dX1_findStories_222 (0 : Int32) (by decide) ?_
      refine s_istore_n (L9 := [some (va_rf l0), none, some (.int (0 : Int32)), none]) (pc := 223) hF dX1_findStories_223 rfl (Nat.le_of_ble_eq_true rfl) rfl ?_
      exact SK.sb (gX1_findStories_L224 hF FU l0 (0 : Int32) M z) ⟨rfl, ⟨rfl, trivial⟩⟩
    · refine s_aload_n (pc := 136) hF dX1_findStories_136 rfl rfl ?_
      refine s_getr (pc := 137) hF (fl_X1_13 hF) dX1_findStories_137 (fun v2 => ?_)
      refine s_iload_n (pc := 140) hF dX1_findStories_140 rfl rfl ?_
      refine s_iald (pc := 141) hF dX1_findStories_141 (fun v3 => ?_)
      refine s_iconst (pc := 142) hF dX1_findStories_142 (1 : Int32) (by decide) ?_
      refine s_icmp_ne (pc := 143) hF 161 dX1_findStories_143 rfl ?_ ?_
      · refine s_iconst (pc := 161) hF dX1_findStories_161 (0 : Int32) (by decide) ?_
        exact SK.sb (gX1_findStories_J162 hF ih l0 l2 (0 : Int32) M z) ⟨rfl, ⟨rfl, trivial⟩⟩
      · refine s_aload_n (pc := 146) hF dX1_findStories_146 rfl rfl ?_
        refine s_getr (pc := 147) hF (fl_X1_55 hF) dX1_findStories_147 (fun v4 => ?_)
        refine s_iload_n (pc := 150) hF dX1_findStories_150 rfl rfl ?_
        refine s_iald (pc := 151) hF dX1_findStories_151 (fun v5 => ?_)
        refine s_bipush (pc := 152) hF dX1_findStories_152 (-9 : Int32) (by decide) ?_
        refine s_icmp_ne (pc := 154) hF 161 dX1_findStories_154 rfl ?_ ?_
        · refine s_iconst (pc := 161) hF dX1_findStories_161 (0 : Int32) (by decide) ?_
          exact SK.sb (gX1_findStories_J162 hF ih l0 l2 (0 : Int32) M z) ⟨rfl, ⟨rfl, trivial⟩⟩
        · refine s_iconst (pc := 157) hF dX1_findStories_157 (1 : Int32) (by decide) ?_
          refine s_goto (pc := 158) hF 162 dX1_findStories_158 rfl ?_
          exact SK.sb (gX1_findStories_J162 hF ih l0 l2 (1 : Int32) M z) ⟨rfl, ⟨rfl, trivial⟩⟩

def fX1_findStories_L109 : Nat → Option Nat → Int32 → Mp → Nat → Rs Unit
  | 0, _, _, _, _ => none
  | fu + 1, l0, l1, M, z => if l1 = 0 then
  ((pu M l0 [1] 21 (.int (0 : Int32))).bind fun M1 =>
fX1_findStories_L128 FU l0 (0 : Int32) M1 z)
else
  (if ckc M l0 [1] = true then
  (cb (fX1_joins l0 M z) z fun v2 M3 z4 =>
fX1_findStories_L109 fu l0 v2 M3 z4)
else none)

theorem gX1_findStories_L109 {G : Cx} {F : Option Value × Mp × Nat} (hF : FX G cX1_findStories 4 RX1 (Option.none : Option Jvm.ClassFile.FieldType) "findStories" 4 97) : ∀ (fu : Nat) (l0 : Option Nat) (l1 : Int32) (M : Mp) (z : Nat), SK G F 4 eV 109 [some (va_rf l0), some (.int l1), none, none] [] M z (fX1_findStories_L109 fu l0 l1 M z) := by
  intro fu
  induction fu with
  | zero => intros; exact SK.fail
  | succ fu ih =>
    intro l0 l1 M z
    rw [fX1_findStories_L109]
    refine s_iload_n (pc := 109) hF dX1_findStories_109 rfl rfl ?_
    refine s_if_eq (pc := 110) hF 121 dX1_findStories_110 rfl ?_ ?_
    · refine s_aload_n (pc := 121) hF dX1_findStories_121 rfl rfl ?_
      refine s_iconst (pc := 122) hF dX1_findStories_122 (0 : Int32) (by decide) ?_
      refine s_put (pc := 123) hF (pl_X1_153 hF _) dX1_findStories_123 (fun M1 => ?_)
      refine s_iconst (pc := 126) hF dX1_findStories_126 (0 : Int32) (by decide) ?_
      refine s_istore_n (L9 := [some (va_rf l0), some (.int l1), some (.int (0 : Int32)), none]) (pc := 127) hF dX1_findStories_127 rfl (Nat.le_of_ble_eq_true rfl) rfl ?_
      exact SK.sb (gX1_findStories_L128 hF FU l0 (0 : Int32) M1 z) ⟨rfl, ⟨rfl, trivial⟩⟩
    · refine s_aload_n (pc := 113) hF dX1_findStories_113 rfl rfl ?_
      refine s_callV (pc := 114) (As := []) (st := []) (stf := fun r9 => .int r9 :: []) hF (mX1_joins l0) cw_X1_joins q1242 q1244 (List.forall_mem_cons.mpr ⟨⟨(RX1, TX1, 34), rfl, qs38⟩, fun _ h9 => absurd h9 List.not_mem_nil⟩) rfl ⟨Nat.le_of_ble_eq_true rfl, Nat.le_of_ble_eq_true rfl⟩ ⟨trivial, Nat.le_of_ble_eq_true rfl⟩ dX1_findStories_114 rfl (fun _ => rfl) (fun v2 M3 z4 => ?_)
      refine s_istore_n (L9 := [some (va_rf l0), some (.int v2), none, none]) (pc := 117) hF dX1_findStories_117 rfl (Nat.le_of_ble_eq_true rfl) rfl ?_
      refine s_goto (pc := 118) hF 109 dX1_findStories_118 rfl ?_
      exact SK.sb (ih l0 v2 M3 z4) ⟨rfl, ⟨rfl, trivial⟩⟩

def fX1_findStories_J101 (r71 : Option Nat → Int32 → Mp → Nat → Rs Unit) (l0 : Option Nat) (l1 : Int32) (M : Mp) (z : Nat) : Rs Unit := r71 l0 (l1 + 1) M z

theorem gX1_findStories_J101 {G : Cx} {F : Option Value × Mp × Nat}  {r71 : Option Nat → Int32 → Mp → Nat → Rs Unit}(hF : FX G cX1_findStories 4 RX1 (Option.none : Option Jvm.ClassFile.FieldType) "findStories" 4 97) (hr71 : ∀ l0 l1 M z, SK G F 4 eV 71 [some (va_rf l0), some (.int l1), none, none] [] M z (r71 l0 l1 M z)) (l0 : Option Nat) (l1 : Int32) (M : Mp) (z : Nat) : SK G F 4 eV 101 [some (va_rf l0), some (.int l1), none, none] [] M z (fX1_findStories_J101 r71 l0 l1 M z) := by
  unfold fX1_findStories_J101
  refine s_iinc (v := l1 + 1) (L9 := [some (va_rf l0), some (.int (l1 + 1)), none, none]) (pc := 101) hF dX1_findStories_101 rfl rfl (Nat.le_of_ble_eq_true rfl) rfl ?_
  refine s_goto (pc := 104) hF 71 dX1_findStories_104 rfl ?_
  exact SK.sb (hr71 l0 (l1 + 1) M z) ⟨rfl, ⟨rfl, trivial⟩⟩

def fX1_findStories_L71 : Nat → Option Nat → Int32 → Mp → Nat → Rs Unit
  | 0, _, _, _, _ => none
  | fu + 1, l0, l1, M, z => (gi M l0 [1] 0).bind fun v1 =>
if l1 < v1 then
  ((gr M l0 [1] 17).bind fun v2 =>
(ai M 0 v2 l1).bind fun v3 =>
if v3 = (-9 : Int32) then
  (fX1_findStories_J101 (fX1_findStories_L71 fu) l0 l1 M z)
else
  ((gr M l0 [1] 17).bind fun v4 =>
(ai M 0 v4 l1).bind fun v5 =>
if ckc M l0 [1] = true then
  (cb (fX1_comesUnder l0 v5 l1 M z) z fun _ M7 z8 =>
fX1_findStories_J101 (fX1_findStories_L71 fu) l0 l1 M7 z8)
else none))
else
  (fX1_findStories_L109 FU l0 (1 : Int32) M z)

theorem gX1_findStories_L71 {G : Cx} {F : Option Value × Mp × Nat} (hF : FX G cX1_findStories 4 RX1 (Option.none : Option Jvm.ClassFile.FieldType) "findStories" 4 97) : ∀ (fu : Nat) (l0 : Option Nat) (l1 : Int32) (M : Mp) (z : Nat), SK G F 4 eV 71 [some (va_rf l0), some (.int l1), none, none] [] M z (fX1_findStories_L71 fu l0 l1 M z) := by
  intro fu
  induction fu with
  | zero => intros; exact SK.fail
  | succ fu ih =>
    intro l0 l1 M z
    rw [fX1_findStories_L71]
    refine s_iload_n (pc := 71) hF dX1_findStories_71 rfl rfl ?_
    refine s_aload_n (pc := 72) hF dX1_findStories_72 rfl rfl ?_
    refine s_geti (pc := 73) hF (fl_X1_98 hF) dX1_findStories_73 (fun v1 => ?_)
    refine s_icmp_ge (pc := 76) hF 107 dX1_findStories_76 rfl ?_ ?_
    · refine s_iconst (pc := 107) hF dX1_findStories_107 (1 : Int32) (by decide) ?_
      refine s_istore_n (L9 := [some (va_rf l0), some (.int (1 : Int32)), none, none]) (pc := 108) hF dX1_findStories_108 rfl (Nat.le_of_ble_eq_true rfl) rfl ?_
      exact SK.sb (gX1_findStories_L109 hF FU l0 (1 : Int32) M z) ⟨rfl, ⟨rfl, trivial⟩⟩
    · refine s_aload_n (pc := 79) hF dX1_findStories_79 rfl rfl ?_
      refine s_getr (pc := 80) hF (fl_X1_55 hF) dX1_findStories_80 (fun v2 => ?_)
      refine s_iload_n (pc := 83) hF dX1_findStories_83 rfl rfl ?_
      refine s_iald (pc := 84) hF dX1_findStories_84 (fun v3 => ?_)
      refine s_bipush (pc := 85) hF dX1_findStories_85 (-9 : Int32) (by decide) ?_
      refine s_icmp_eq (pc := 87) hF 101 dX1_findStories_87 rfl ?_ ?_
      · exact SK.sb (gX1_findStories_J101 hF ih l0 l1 M z) ⟨rfl, ⟨rfl, trivial⟩⟩
      · refine s_aload_n (pc := 90) hF dX1_findStories_90 rfl rfl ?_
        refine s_aload_n (pc := 91) hF dX1_findStories_91 rfl rfl ?_
        refine s_getr (pc := 92) hF (fl_X1_55 hF) dX1_findStories_92 (fun v4 => ?_)
        refine s_iload_n (pc := 95) hF dX1_findStories_95 rfl rfl ?_
        refine s_iald (pc := 96) hF dX1_findStories_96 (fun v5 => ?_)
        refine s_iload_n (pc := 97) hF dX1_findStories_97 rfl rfl ?_
        refine s_callV (pc := 98) (As := [.int v5, .int l1]) (st := []) (stf := fun r9 => []) hF (mX1_comesUnder l0 v5 l1) cw_X1_comesUnder q1230 q1232 (List.forall_mem_cons.mpr ⟨⟨(RX1, TX1, 34), rfl, qs35⟩, fun _ h9 => absurd h9 List.not_mem_nil⟩) rfl ⟨Nat.le_of_ble_eq_true rfl, Nat.le_of_ble_eq_true rfl⟩ ⟨trivial, Nat.le_of_ble_eq_true rfl⟩ dX1_findStories_98 rfl (fun _ => rfl) (fun v6 M7 z8 => ?_)
        exact SK.sb (gX1_findStories_J101 hF ih l0 l1 M7 z8) ⟨rfl, ⟨rfl, trivial⟩⟩

def fX1_findStories_J62 (r2 : Option Nat → Int32 → Mp → Nat → Rs Unit) (l0 : Option Nat) (l1 : Int32) (s0 : Option Nat) (s1 : Int32) (s2 : Int32) (M : Mp) (z : Nat) : Rs Unit := (si M 0 s0 s1 s2).bind fun M1 =>
r2 l0 (l1 + 1) M1 z

theorem gX1_findStories_J62 {G : Cx} {F : Option Value × Mp × Nat}  {r2 : Option Nat → Int32 → Mp → Nat → Rs Unit}(hF : FX G cX1_findStories 4 RX1 (Option.none : Option Jvm.ClassFile.FieldType) "findStories" 4 97) (hr2 : ∀ l0 l1 M z, SK G F 4 eV 2 [some (va_rf l0), some (.int l1), none, none] [] M z (r2 l0 l1 M z)) (l0 : Option Nat) (l1 : Int32) (s0 : Option Nat) (s1 : Int32) (s2 : Int32) (M : Mp) (z : Nat) : SK G F 4 eV 62 [some (va_rf l0), some (.int l1), none, none] [.int s2, .int s1, va_rf s0] M z (fX1_findStories_J62 r2 l0 l1 s0 s1 s2 M z) := by
  unfold fX1_findStories_J62
  refine s_iast (pc := 62) hF dX1_findStories_62 (fun M1 => ?_)
  refine s_iinc (v := l1 + 1) (L9 := [some (va_rf l0), some (.int (l1 + 1)), none, none]) (pc := 63) hF dX1_findStories_63 rfl rfl (Nat.le_of_ble_eq_true rfl) rfl ?_
  refine s_goto (pc := 66) hF 2 dX1_findStories_66 rfl ?_
  exact SK.sb (hr2 l0 (l1 + 1) M1 z) ⟨rfl, ⟨rfl, trivial⟩⟩

def fX1_findStories_L2 : Nat → Option Nat → Int32 → Mp → Nat → Rs Unit
  | 0, _, _, _, _ => none
  | fu + 1, l0, l1, M, z => (gi M l0 [1] 0).bind fun v1 =>
if l1 < v1 then
  ((gr M l0 [1] 19).bind fun v2 =>
(si M 0 v2 l1 (0 : Int32)).bind fun M3 =>
(gr M3 l0 [1] 18).bind fun v4 =>
(si M3 0 v4 l1 (-9 : Int32)).bind fun M5 =>
(gr M5 l0 [1] 16).bind fun v6 =>
if ckc M5 l0 [1] = true then
  (cb (fX1_headOver l0 l1 M5 z) z fun v7 M8 z9 =>
(si M8 0 v6 l1 v7).bind fun M10 =>
(gr M10 l0 [1] 17).bind fun v11 =>
(gr M10 l0 [1] 2).bind fun v12 =>
(ai M10 0 v12 l1).bind fun v13 =>
if v13 = (1 : Int32) then
  ((gr M10 l0 [1] 16).bind fun v14 =>
(ai M10 0 v14 l1).bind fun v15 =>
fX1_findStories_J62 (fX1_findStories_L2 fu) l0 l1 v11 l1 v15 M10 z9)
else
  (fX1_findStories_J62 (fX1_findStories_L2 fu) l0 l1 v11 l1 (-9 : Int32) M10 z9))
else none)
else
  (fX1_findStories_L71 FU l0 (0 : Int32) M z)

theorem gX1_findStories_L2 {G : Cx} {F : Option Value × Mp × Nat} (hF : FX G cX1_findStories 4 RX1 (Option.none : Option Jvm.ClassFile.FieldType) "findStories" 4 97) : ∀ (fu : Nat) (l0 : Option Nat) (l1 : Int32) (M : Mp) (z : Nat), SK G F 4 eV 2 [some (va_rf l0), some (.int l1), none, none] [] M z (fX1_findStories_L2 fu l0 l1 M z) := by
  intro fu
  induction fu with
  | zero => intros; exact SK.fail
  | succ fu ih =>
    intro l0 l1 M z
    rw [fX1_findStories_L2]
    refine s_iload_n (pc := 2) hF dX1_findStories_2 rfl rfl ?_
    refine s_aload_n (pc := 3) hF dX1_findStories_3 rfl rfl ?_
    refine s_geti (pc := 4) hF (fl_X1_98 hF) dX1_findStories_4 (fun v1 => ?_)
    refine s_icmp_ge (pc := 7) hF 69 dX1_findStories_7 rfl ?_ ?_
    · refine s_iconst (pc := 69) hF dX1_findStories_69 (0 : Int32) (by decide) ?_
      refine s_istore_n (L9 := [some (va_rf l0), some (.int (0 : Int32)), none, none]) (pc := 70) hF dX1_findStories_70 rfl (Nat.le_of_ble_eq_true rfl) rfl ?_
      exact SK.sb (gX1_findStories_L71 hF FU l0 (0 : Int32) M z) ⟨rfl, ⟨rfl, trivial⟩⟩
    · refine s_aload_n (pc := 10) hF dX1_findStories_10 rfl rfl ?_
      refine s_getr (pc := 11) hF (fl_X1_61 hF) dX1_findStories_11 (fun v2 => ?_)
      refine s_iload_n (pc := 14) hF dX1_findStories_14 rfl rfl ?_
      refine s_iconst (pc := 15) hF dX1_findStories_15 (0 : Int32) (by decide) ?_
      refine s_iast (pc := 16) hF dX1_findStories_16 (fun M3 => ?_)
      refine s_aload_n (pc := 17) hF dX1_findStories_17 rfl rfl ?_
      refine s_getr (pc := 18) hF (fl_X1_58 hF) dX1_findStories_18 (fun v4 => ?_)
      refine s_iload_n (pc := 21) hF dX1_findStories_21 rfl rfl ?_
      refine s_bipush (pc := 22) hF dX1_findStories_22 (-9 : Int32) (by decide) ?_
      refine s_iast (pc := 24) hF dX1_findStories_24 (fun M5 => ?_)
      refine s_aload_n (pc := 25) hF dX1_findStories_25 rfl rfl ?_
      refine s_getr (pc := 26) hF (fl_X1_52 hF) dX1_findStories_26 (fun v6 => ?_)
      refine s_iload_n (pc := 29) hF dX1_findStories_29 rfl rfl ?_
      refine s_aload_n (pc := 30) hF dX1_findStories_30 rfl rfl ?_
      refine s_iload_n (pc := 31) hF dX1_findStories_31 rfl rfl ?_
      refine s_callV (pc := 32) (As := [.int l1]) (st := [.int l1, va_rf v6]) (stf := fun r9 => .int r9 :: [.int l1, va_rf v6]) hF (mX1_headOver l0 l1) cw_X1_headOver q1218 q1220 (List.forall_mem_cons.mpr ⟨⟨(RX1, TX1, 34), rfl, qs33⟩, fun _ h9 => absurd h9 List.not_mem_nil⟩) rfl ⟨Nat.le_of_ble_eq_true rfl, Nat.le_of_ble_eq_true rfl⟩ ⟨⟨rfl, ⟨ct _, trivial⟩⟩, Nat.le_of_ble_eq_true rfl⟩ dX1_findStories_32 rfl (fun _ => rfl) (fun v7 M8 z9 => ?_)
      refine s_iast (pc := 35) hF dX1_findStories_35 (fun M10 => ?_)
      refine s_aload_n (pc := 36) hF dX1_findStories_36 rfl rfl ?_
      refine s_getr (pc := 37) hF (fl_X1_55 hF) dX1_findStories_37 (fun v11 => ?_)
      refine s_iload_n (pc := 40) hF dX1_findStories_40 rfl rfl ?_
      refine s_aload_n (pc := 41) hF dX1_findStories_41 rfl rfl ?_
      refine s_getr (pc := 42) hF (fl_X1_13 hF) dX1_findStories_42 (fun v12 => ?_)
      refine s_iload_n (pc := 45) hF dX1_findStories_45 rfl rfl ?_
      refine s_iald (pc := 46) hF dX1_findStories_46 (fun v13 => ?_)
      refine s_iconst (pc := 47) hF dX1_findStories_47 (1 : Int32) (by decide) ?_
      refine s_icmp_ne (pc := 48) hF 60 dX1_findStories_48 rfl ?_ ?_
      · refine s_bipush (pc := 60) hF dX1_findStories_60 (-9 : Int32) (by decide) ?_
        exact SK.sb (gX1_findStories_J62 hF ih l0 l1 v11 l1 (-9 : Int32) M10 z9) ⟨rfl, ⟨rfl, trivial⟩⟩
      · refine s_aload_n (pc := 51) hF dX1_findStories_51 rfl rfl ?_
        refine s_getr (pc := 52) hF (fl_X1_52 hF) dX1_findStories_52 (fun v14 => ?_)
        refine s_iload_n (pc := 55) hF dX1_findStories_55 rfl rfl ?_
        refine s_iald (pc := 56) hF dX1_findStories_56 (fun v15 => ?_)
        refine s_goto (pc := 57) hF 62 dX1_findStories_57 rfl ?_
        exact SK.sb (gX1_findStories_J62 hF ih l0 l1 v11 l1 v15 M10 z9) ⟨rfl, ⟨rfl, trivial⟩⟩
def fX1_findStories (a0 : Option Nat) (M : Mp) (z : Nat) : Rs Unit := fX1_findStories_L2 FU a0 (0 : Int32) M z
theorem gX1_findStories {G : Cx} {F : Option Value × Mp × Nat} (hF : FX G cX1_findStories 4 RX1 (Option.none : Option Jvm.ClassFile.FieldType) "findStories" 4 97) (a0 : Option Nat) (M : Mp) (z : Nat) : SK G F 4 eV 0 [some (va_rf a0), none, none, none] [] M z (fX1_findStories a0 M z) := by
  unfold fX1_findStories
  refine s_iconst (pc := 0) hF dX1_findStories_0 (0 : Int32) (by decide) ?_
  refine s_istore_n (L9 := [some (va_rf a0), some (.int (0 : Int32)), none, none]) (pc := 1) hF dX1_findStories_1 rfl (Nat.le_of_ble_eq_true rfl) rfl ?_
  exact SK.sb (gX1_findStories_L2 hF FU a0 (0 : Int32) M z) ⟨rfl, ⟨rfl, trivial⟩⟩
theorem mX1_findStories (a0 : Option Nat) : MT yX1_findStories cX1_findStories 4 (Option.none : Option Jvm.ClassFile.FieldType) 4 97 eV [va_rf a0] (fX1_findStories a0) :=
  MT.of (L0 := [some (va_rf a0), none, none, none]) (by decide) ⟨ct _, trivial⟩ (Nat.le_of_ble_eq_true rfl) rfl (fun _ _ hF M z => gX1_findStories hF a0 M z)

theorem cw_X1_findStories : CWm yX1_findStories cX1_findStories 4 (Option.none : Option Jvm.ClassFile.FieldType) 0 := ⟨q1229, q63, by decide +kernel, by decide +kernel, by decide +kernel⟩
def fX1_story (a0 : Option Nat) (a1 : Int32) (M : Mp) (z : Nat) : Rs Int32 := if ckc M a0 [1] = true then
  (cb (fX1_isBlock a0 a1 M z) z fun v1 M2 z3 =>
if v1 = 0 then
  (some ((-1 : Int32), M2, 0, 0))
else
  (if ckc M2 a0 [1] = true then
  (cb (fX1_findStories a0 M2 z3) z3 fun _ M5 z6 =>
(gr M5 a0 [1] 23).bind fun v7 =>
(ai M5 0 v7 a1).bind fun v8 =>
some (v8, M5, 0, 0))
else none))
else none
theorem gX1_story {G : Cx} {F : Option Value × Mp × Nat} (hF : FX G cX1_story 2 RX1 (Option.some Jvm.ClassFile.FieldType.int) "story" 5 120) (a0 : Option Nat) (a1 : Int32) (M : Mp) (z : Nat) : SK G F 2 eI 0 [some (va_rf a0), some (.int a1)] [] M z (fX1_story a0 a1 M z) := by
  unfold fX1_story
  refine s_aload_n (pc := 0) hF dX1_story_0 rfl rfl ?_
  refine s_iload_n (pc := 1) hF dX1_story_1 rfl rfl ?_
  refine s_callV (pc := 2) (As := [.int a1]) (st := []) (stf := fun r9 => .int r9 :: []) hF (mX1_isBlock a0 a1) cw_X1_isBlock q1158 q1160 (List.forall_mem_cons.mpr ⟨⟨(RX1, TX1, 34), rfl, qs28⟩, fun _ h9 => absurd h9 List.not_mem_nil⟩) rfl ⟨Nat.le_of_ble_eq_true rfl, Nat.le_of_ble_eq_true rfl⟩ ⟨trivial, Nat.le_of_ble_eq_true rfl⟩ dX1_story_2 rfl (fun _ => rfl) (fun v1 M2 z3 => ?_)
  refine s_if_ne (pc := 5) hF 10 dX1_story_5 rfl ?_ ?_
  · refine s_aload_n (pc := 10) hF dX1_story_10 rfl rfl ?_
    refine s_callV (pc := 11) (As := []) (st := []) (stf := fun r9 => []) hF (mX1_findStories a0) cw_X1_findStories q1226 q1228 (List.forall_mem_cons.mpr ⟨⟨(RX1, TX1, 34), rfl, qs34⟩, fun _ h9 => absurd h9 List.not_mem_nil⟩) rfl ⟨Nat.le_of_ble_eq_true rfl, Nat.le_of_ble_eq_true rfl⟩ ⟨trivial, Nat.le_of_ble_eq_true rfl⟩ dX1_story_11 rfl (fun _ => rfl) (fun v4 M5 z6 => ?_)
    refine s_aload_n (pc := 14) hF dX1_story_14 rfl rfl ?_
    refine s_getr (pc := 15) hF (fl_X1_70 hF) dX1_story_15 (fun v7 => ?_)
    refine s_iload_n (pc := 18) hF dX1_story_18 rfl rfl ?_
    refine s_iald (pc := 19) hF dX1_story_19 (fun v8 => ?_)
    exact s_iret (pc := 20) hF dX1_story_20
  · refine s_iconst (pc := 8) hF dX1_story_8 (-1 : Int32) (by decide) ?_
    exact s_iret (pc := 9) hF dX1_story_9
theorem mX1_story (a0 : Option Nat) (a1 : Int32) : MT yX1_story cX1_story 2 (Option.some Jvm.ClassFile.FieldType.int) 5 120 eI [va_rf a0, .int a1] (fX1_story a0 a1) :=
  MT.of (L0 := [some (va_rf a0), some (.int a1)]) (by decide) ⟨ct _, ⟨rfl, trivial⟩⟩ (Nat.le_of_ble_eq_true rfl) rfl (fun _ _ hF M z => gX1_story hF a0 a1 M z)

def fX1_takenBy (a0 : Option Nat) (a1 : Int32) (M : Mp) (z : Nat) : Rs Int32 := if ckc M a0 [1] = true then
  (cb (fX1_isBlock a0 a1 M z) z fun v1 M2 z3 =>
if v1 = 0 then
  (some ((-1 : Int32), M2, 0, 0))
else
  ((gr M2 a0 [1] 2).bind fun v4 =>
(ai M2 0 v4 a1).bind fun v5 =>
if v5 = (1 : Int32) then
  (if ckc M2 a0 [1] = true then
  (cb (fX1_findStories a0 M2 z3) z3 fun _ M7 z8 =>
(gr M7 a0 [1] 18).bind fun v9 =>
(ai M7 0 v9 a1).bind fun v10 =>
some (v10, M7, 0, 0))
else none)
else
  (some ((-3 : Int32), M2, 0, 0))))
else none
theorem gX1_takenBy {G : Cx} {F : Option Value × Mp × Nat} (hF : FX G cX1_takenBy 2 RX1 (Option.some Jvm.ClassFile.FieldType.int) "takenBy" 5 120) (a0 : Option Nat) (a1 : Int32) (M : Mp) (z : Nat) : SK G F 2 eI 0 [some (va_rf a0), some (.int a1)] [] M z (fX1_takenBy a0 a1 M z) := by
  unfold fX1_takenBy
  refine s_aload_n (pc := 0) hF dX1_takenBy_0 rfl rfl ?_
  refine s_iload_n (pc := 1) hF dX1_takenBy_1 rfl rfl ?_
  refine s_callV (pc := 2) (As := [.int a1]) (st := []) (stf := fun r9 => .int r9 :: []) hF (mX1_isBlock a0 a1) cw_X1_isBlock q1158 q1160 (List.forall_mem_cons.mpr ⟨⟨(RX1, TX1, 34), rfl, qs28⟩, fun _ h9 => absurd h9 List.not_mem_nil⟩) rfl ⟨Nat.le_of_ble_eq_true rfl, Nat.le_of_ble_eq_true rfl⟩ ⟨trivial, Nat.le_of_ble_eq_true rfl⟩ dX1_takenBy_2 rfl (fun _ => rfl) (fun v1 M2 z3 => ?_)
  refine s_if_ne (pc := 5) hF 10 dX1_takenBy_5 rfl ?_ ?_
  · refine s_aload_n (pc := 10) hF dX1_takenBy_10 rfl rfl ?_
    refine s_getr (pc := 11) hF (fl_X1_13 hF) dX1_takenBy_11 (fun v4 => ?_)
    refine s_iload_n (pc := 14) hF dX1_takenBy_14 rfl rfl ?_
    refine s_iald (pc := 15) hF dX1_takenBy_15 (fun v5 => ?_)
    refine s_iconst (pc := 16) hF dX1_takenBy_16 (1 : Int32) (by decide) ?_
    refine s_icmp_eq (pc := 17) hF 23 dX1_takenBy_17 rfl ?_ ?_
    · refine s_aload_n (pc := 23) hF dX1_takenBy_23 rfl rfl ?_
      refine s_callV (pc := 24) (As := []) (st := []) (stf := fun r9 => []) hF (mX1_findStories a0) cw_X1_findStories q1226 q1228 (List.forall_mem_cons.mpr ⟨⟨(RX1, TX1, 34), rfl, qs34⟩, fun _ h9 => absurd h9 List.not_mem_nil⟩) rfl ⟨Nat.le_of_ble_eq_true rfl, Nat.le_of_ble_eq_true rfl⟩ ⟨trivial, Nat.le_of_ble_eq_true rfl⟩ dX1_takenBy_24 rfl (fun _ => rfl) (fun v6 M7 z8 => ?_)
      refine s_aload_n (pc := 27) hF dX1_takenBy_27 rfl rfl ?_
      refine s_getr (pc := 28) hF (fl_X1_58 hF) dX1_takenBy_28 (fun v9 => ?_)
      refine s_iload_n (pc := 31) hF dX1_takenBy_31 rfl rfl ?_
      refine s_iald (pc := 32) hF dX1_takenBy_32 (fun v10 => ?_)
      exact s_iret (pc := 33) hF dX1_takenBy_33
    · refine s_bipush (pc := 20) hF dX1_takenBy_20 (-3 : Int32) (by decide) ?_
      exact s_iret (pc := 22) hF dX1_takenBy_22
  · refine s_iconst (pc := 8) hF dX1_takenBy_8 (-1 : Int32) (by decide) ?_
    exact s_iret (pc := 9) hF dX1_takenBy_9
theorem mX1_takenBy (a0 : Option Nat) (a1 : Int32) : MT yX1_takenBy cX1_takenBy 2 (Option.some Jvm.ClassFile.FieldType.int) 5 120 eI [va_rf a0, .int a1] (fX1_takenBy a0 a1) :=
  MT.of (L0 := [some (va_rf a0), some (.int a1)]) (by decide) ⟨ct _, ⟨rfl, trivial⟩⟩ (Nat.le_of_ble_eq_true rfl) rfl (fun _ _ hF M z => gX1_takenBy hF a0 a1 M z)

theorem fl_X1_34 {G : Cx} {nL fr lc : Nat} {cc : ByteArray} {ret : Option FieldType} {nm : String} (hF : FX G cc nL RX1 ret nm fr lc) : ∀ c ∈ [1], GF G RX1 34 c 9 := by
  obtain ⟨⟨p, l, e, R, s, m, args, below, meth, c0⟩, A, D, dA, mi⟩ := G
  obtain ⟨hx, hb, hml, hown, hts, hr, hlk, hK, hnm, hfr, hlc⟩ := hF
  exact List.forall_mem_cons.mpr ⟨⟨RX1, TX1, 34, "StoryColumnsModel", rfl, in_X1, Nat.le_of_ble_eq_true rfl, Or.inl (hts _ q1047), fun _ h => h⟩, fun _ h9 => absurd h9 List.not_mem_nil⟩
def fX1_mark_J88 (l0 : Option Nat) (l1 : Int32) (l2 : Int32) (l3 : Int32) (l4 : Int32) (s0 : Int32) (M : Mp) (z : Nat) : Rs Int32 := (gr M l0 [1] 8).bind fun v1 =>
(si M 0 v1 (((2 : Int32) * l1) + l2) l3).bind fun M2 =>
(gr M2 l0 [1] 9).bind fun v3 =>
(si M2 0 v3 (((2 : Int32) * l1) + l2) l4).bind fun M4 =>
some (s0, M4, 0, 0)

theorem gX1_mark_J88 {G : Cx} {F : Option Value × Mp × Nat} (hF : FX G cX1_mark 6 RX1 (Option.some Jvm.ClassFile.FieldType.int) "mark" 2 43) (l0 : Option Nat) (l1 : Int32) (l2 : Int32) (l3 : Int32) (l4 : Int32) (s0 : Int32) (M : Mp) (z : Nat) : SK G F 6 eI 88 [some (va_rf l0), some (.int l1), some (.int l2), some (.int l3), some (.int l4), none] [.int s0] M z (fX1_mark_J88 l0 l1 l2 l3 l4 s0 M z) := by
  unfold fX1_mark_J88
  refine s_istore (L9 := [some (va_rf l0), some (.int l1), some (.int l2), some (.int l3), some (.int l4), some (.int s0)]) (pc := 88) hF dX1_mark_88 (Nat.le_of_ble_eq_true rfl) rfl ?_
  refine s_aload_n (pc := 90) hF dX1_mark_90 rfl rfl ?_
  refine s_getr (pc := 91) hF (fl_X1_31 hF) dX1_mark_91 (fun v1 => ?_)
  refine s_iconst (pc := 94) hF dX1_mark_94 (2 : Int32) (by decide) ?_
  refine s_iload_n (pc := 95) hF dX1_mark_95 rfl rfl ?_
  refine s_imul (pc := 96) hF dX1_mark_96 ?_
  refine s_iload_n (pc := 97) hF dX1_mark_97 rfl rfl ?_
  refine s_iadd (pc := 98) hF dX1_mark_98 ?_
  refine s_iload_n (pc := 99) hF dX1_mark_99 rfl rfl ?_
  refine s_iast (pc := 100) hF dX1_mark_100 (fun M2 => ?_)
  refine s_aload_n (pc := 101) hF dX1_mark_101 rfl rfl ?_
  refine s_getr (pc := 102) hF (fl_X1_34 hF) dX1_mark_102 (fun v3 => ?_)
  refine s_iconst (pc := 105) hF dX1_mark_105 (2 : Int32) (by decide) ?_
  refine s_iload_n (pc := 106) hF dX1_mark_106 rfl rfl ?_
  refine s_imul (pc := 107) hF dX1_mark_107 ?_
  refine s_iload_n (pc := 108) hF dX1_mark_108 rfl rfl ?_
  refine s_iadd (pc := 109) hF dX1_mark_109 ?_
  refine s_iload (pc := 110) hF dX1_mark_110 rfl ?_
  refine s_iast (pc := 112) hF dX1_mark_112 (fun M4 => ?_)
  refine s_iload (pc := 113) hF dX1_mark_113 rfl ?_
  exact s_iret (pc := 115) hF dX1_mark_115

def fX1_mark_J68 (l0 : Option Nat) (l1 : Int32) (l2 : Int32) (l3 : Int32) (l4 : Int32) (M : Mp) (z : Nat) : Rs Int32 := (gr M l0 [1] 8).bind fun v1 =>
(ai M 0 v1 (((2 : Int32) * l1) + l2)).bind fun v2 =>
if v2 = (-9 : Int32) then
  (fX1_mark_J88 l0 l1 l2 l3 l4 (0 : Int32) M z)
else
  (fX1_mark_J88 l0 l1 l2 l3 l4 (1 : Int32) M z)

theorem gX1_mark_J68 {G : Cx} {F : Option Value × Mp × Nat} (hF : FX G cX1_mark 6 RX1 (Option.some Jvm.ClassFile.FieldType.int) "mark" 2 43) (l0 : Option Nat) (l1 : Int32) (l2 : Int32) (l3 : Int32) (l4 : Int32) (M : Mp) (z : Nat) : SK G F 6 eI 68 [some (va_rf l0), some (.int l1), some (.int l2), some (.int l3), some (.int l4), none] [] M z (fX1_mark_J68 l0 l1 l2 l3 l4 M z) := by
  unfold fX1_mark_J68
  refine s_aload_n (pc := 68) hF dX1_mark_68 rfl rfl ?_
  refine s_getr (pc := 69) hF (fl_X1_31 hF) dX1_mark_69 (fun v1 => ?_)
  refine s_iconst (pc := 72) hF dX1_mark_72 (2 : Int32) (by decide) ?_
  refine s_iload_n (pc := 73) hF dX1_mark_73 rfl rfl ?_
  refine s_imul (pc := 74) hF dX1_mark_74 ?_
  refine s_iload_n (pc := 75) hF dX1_mark_75 rfl rfl ?_
  refine s_iadd (pc := 76) hF dX1_mark_76 ?_
  refine s_iald (pc := 77) hF dX1_mark_77 (fun v2 => ?_)
  refine s_bipush (pc := 78) hF dX1_mark_78 (-9 : Int32) (by decide) ?_
  refine s_icmp_ne (pc := 80) hF 87 dX1_mark_80 rfl ?_ ?_
  · refine s_iconst (pc := 87) hF dX1_mark_87 (1 : Int32) (by decide) ?_
    exact SK.sb (gX1_mark_J88 hF l0 l1 l2 l3 l4 (1 : Int32) M z) ⟨rfl, ⟨rfl, ⟨rfl, ⟨rfl, ⟨rfl, trivial⟩⟩⟩⟩⟩
  · refine s_iconst (pc := 83) hF dX1_mark_83 (0 : Int32) (by decide) ?_
    refine s_goto (pc := 84) hF 88 dX1_mark_84 rfl ?_
    exact SK.sb (gX1_mark_J88 hF l0 l1 l2 l3 l4 (0 : Int32) M z) ⟨rfl, ⟨rfl, ⟨rfl, ⟨rfl, ⟨rfl, trivial⟩⟩⟩⟩⟩
def fX1_mark (a0 : Option Nat) (a1 : Int32) (a2 : Int32) (a3 : Int32) (a4 : Int32) (M : Mp) (z : Nat) : Rs Int32 := if ckc M a0 [1] = true then
  (cb (fX1_isBlock a0 a1 M z) z fun v1 M2 z3 =>
if v1 = 0 then
  (some ((-1 : Int32), M2, 0, 0))
else
  (cb (fX1_within a2 (0 : Int32) (1 : Int32) M2 z3) z3 fun v4 M5 z6 =>
if v4 = 0 then
  (some ((-2 : Int32), M5, 0, 0))
else
  (cb (fX1_within a3 (0 : Int32) (3 : Int32) M5 z6) z6 fun v7 M8 z9 =>
if v7 = 0 then
  (some ((-2 : Int32), M8, 0, 0))
else
  (cb (fX1_within a4 (0 : Int32) (99 : Int32) M8 z9) z9 fun v10 M11 z12 =>
if v10 = 0 then
  (some ((-2 : Int32), M11, 0, 0))
else
  ((gr M11 a0 [1] 2).bind fun v13 =>
(ai M11 0 v13 a1).bind fun v14 =>
if v14 = (2 : Int32) then
  (some ((-3 : Int32), M11, 0, 0))
else
  (if a2 = 0 then
  ((gr M11 a0 [1] 2).bind fun v15 =>
(ai M11 0 v15 a1).bind fun v16 =>
if v16 = 0 then
  (some ((-3 : Int32), M11, 0, 0))
else
  (fX1_mark_J68 a0 a1 a2 a3 a4 M11 z12))
else
  (fX1_mark_J68 a0 a1 a2 a3 a4 M11 z12)))))))
else none
theorem gX1_mark {G : Cx} {F : Option Value × Mp × Nat} (hF : FX G cX1_mark 6 RX1 (Option.some Jvm.ClassFile.FieldType.int) "mark" 2 43) (a0 : Option Nat) (a1 : Int32) (a2 : Int32) (a3 : Int32) (a4 : Int32) (M : Mp) (z : Nat) : SK G F 6 eI 0 [some (va_rf a0), some (.int a1), some (.int a2), some (.int a3), some (.int a4), none] [] M z (fX1_mark a0 a1 a2 a3 a4 M z) := by
  unfold fX1_mark
  refine s_aload_n (pc := 0) hF dX1_mark_0 rfl rfl ?_
  refine s_iload_n (pc := 1) hF dX1_mark_1 rfl rfl ?_
  refine s_callV (pc := 2) (As := [.int a1]) (st := []) (stf := fun r9 => .int r9 :: []) hF (mX1_isBlock a0 a1) cw_X1_isBlock q1158 q1160 (List.forall_mem_cons.mpr ⟨⟨(RX1, TX1, 34), rfl, qs28⟩, fun _ h9 => absurd h9 List.not_mem_nil⟩) rfl ⟨Nat.le_of_ble_eq_true rfl, Nat.le_of_ble_eq_true rfl⟩ ⟨trivial, Nat.le_of_ble_eq_true rfl⟩ dX1_mark_2 rfl (fun _ => rfl) (fun v1 M2 z3 => ?_)
  refine s_if_ne (pc := 5) hF 10 dX1_mark_5 rfl ?_ ?_
  · refine s_iload_n (pc := 10) hF dX1_mark_10 rfl rfl ?_
    refine s_iconst (pc := 11) hF dX1_mark_11 (0 : Int32) (by decide) ?_
    refine s_iconst (pc := 12) hF dX1_mark_12 (1 : Int32) (by decide) ?_
    refine s_callS (pc := 13) (As := [.int a2, .int (0 : Int32), .int (1 : Int32)]) (st := []) (stf := fun r9 => .int r9 :: []) hF (mX1_within a2 (0 : Int32) (1 : Int32)) cw_X1_within q1147 q1148 rfl ⟨Nat.le_of_ble_eq_true rfl, Nat.le_of_ble_eq_true rfl⟩ ⟨trivial, Nat.le_of_ble_eq_true rfl⟩ dX1_mark_13 rfl (fun _ => rfl) (fun v4 M5 z6 => ?_)
    refine s_if_eq (pc := 16) hF 39 dX1_mark_16 rfl ?_ ?_
    · refine s_bipush (pc := 39) hF dX1_mark_39 (-2 : Int32) (by decide) ?_
      exact s_iret (pc := 41) hF dX1_mark_41
    · refine s_iload_n (pc := 19) hF dX1_mark_19 rfl rfl ?_
      refine s_iconst (pc := 20) hF dX1_mark_20 (0 : Int32) (by decide) ?_
      refine s_iconst (pc := 21) hF dX1_mark_21 (3 : Int32) (by decide) ?_
      refine s_callS (pc := 22) (As := [.int a3, .int (0 : Int32), .int (3 : Int32)]) (st := []) (stf := fun r9 => .int r9 :: []) hF (mX1_within a3 (0 : Int32) (3 : Int32)) cw_X1_within q1147 q1148 rfl ⟨Nat.le_of_ble_eq_true rfl, Nat.le_of_ble_eq_true rfl⟩ ⟨trivial, Nat.le_of_ble_eq_true rfl⟩ dX1_mark_22 rfl (fun _ => rfl) (fun v7 M8 z9 => ?_)
      refine s_if_eq (pc := 25) hF 39 dX1_mark_25 rfl ?_ ?_
      · refine s_bipush (pc := 39) hF dX1_mark_39 (-2 : Int32) (by decide) ?_
        exact s_iret (pc := 41) hF dX1_mark_41
      · refine s_iload (pc := 28) hF dX1_mark_28 rfl ?_
        refine s_iconst (pc := 30) hF dX1_mark_30 (0 : Int32) (by decide) ?_
        refine s_bipush (pc := 31) hF dX1_mark_31 (99 : Int32) (by decide) ?_
        refine s_callS (pc := 33) (As := [.int a4, .int (0 : Int32), .int (99 : Int32)]) (st := []) (stf := fun r9 => .int r9 :: []) hF (mX1_within a4 (0 : Int32) (99 : Int32)) cw_X1_within q1147 q1148 rfl ⟨Nat.le_of_ble_eq_true rfl, Nat.le_of_ble_eq_true rfl⟩ ⟨trivial, Nat.le_of_ble_eq_true rfl⟩ dX1_mark_33 rfl (fun _ => rfl) (fun v10 M11 z12 => ?_)
        refine s_if_ne (pc := 36) hF 42 dX1_mark_36 rfl ?_ ?_
        · refine s_aload_n (pc := 42) hF dX1_mark_42 rfl rfl ?_
          refine s_getr (pc := 43) hF (fl_X1_13 hF) dX1_mark_43 (fun v13 => ?_)
          refine s_iload_n (pc := 46) hF dX1_mark_46 rfl rfl ?_
          refine s_iald (pc := 47) hF dX1_mark_47 (fun v14 => ?_)
          refine s_iconst (pc := 48) hF dX1_mark_48 (2 : Int32) (by decide) ?_
          refine s_icmp_eq (pc := 49) hF 65 dX1_mark_49 rfl ?_ ?_
          · refine s_bipush (pc := 65) hF dX1_mark_65 (-3 : Int32) (by decide) ?_
            exact s_iret (pc := 67) hF dX1_mark_67
          · refine s_iload_n (pc := 52) hF dX1_mark_52 rfl rfl ?_
            refine s_if_ne (pc := 53) hF 68 dX1_mark_53 rfl ?_ ?_
            · exact SK.sb (gX1_mark_J68 hF a0 a1 a2 a3 a4 M11 z12) ⟨rfl, ⟨rfl, ⟨rfl, ⟨rfl, ⟨rfl, trivial⟩⟩⟩⟩⟩
            · refine s_aload_n (pc := 56) hF dX1_mark_56 rfl rfl ?_
              refine s_getr (pc := 57) hF (fl_X1_13 hF) dX1_mark_57 (fun v15 => ?_)
              refine s_iload_n (pc := 60) hF dX1_mark_60 rfl rfl ?_
              refine s_iald (pc := 61) hF dX1_mark_61 (fun v16 => ?_)
              refine s_if_ne (pc := 62) hF 68 dX1_mark_62 rfl ?_ ?_
              · exact SK.sb (gX1_mark_J68 hF a0 a1 a2 a3 a4 M11 z12) ⟨rfl, ⟨rfl, ⟨rfl, ⟨rfl, ⟨rfl, trivial⟩⟩⟩⟩⟩
              · refine s_bipush (pc := 65) hF dX1_mark_65 (-3 : Int32) (by decide) ?_
                exact s_iret (pc := 67) hF dX1_mark_67
        · refine s_bipush (pc := 39) hF dX1_mark_39 (-2 : Int32) (by decide) ?_
          exact s_iret (pc := 41) hF dX1_mark_41
  · refine s_iconst (pc := 8) hF dX1_mark_8 (-1 : Int32) (by decide) ?_
    exact s_iret (pc := 9) hF dX1_mark_9
theorem mX1_mark (a0 : Option Nat) (a1 : Int32) (a2 : Int32) (a3 : Int32) (a4 : Int32) : MT yX1_mark cX1_mark 6 (Option.some Jvm.ClassFile.FieldType.int) 2 43 eI [va_rf a0, .int a1, .int a2, .int a3, .int a4] (fX1_mark a0 a1 a2 a3 a4) :=
  MT.of (L0 := [some (va_rf a0), some (.int a1), some (.int a2), some (.int a3), some (.int a4), none]) (by decide) ⟨ct _, ⟨rfl, ⟨rfl, ⟨rfl, ⟨rfl, trivial⟩⟩⟩⟩⟩ (Nat.le_of_ble_eq_true rfl) rfl (fun _ _ hF M z => gX1_mark hF a0 a1 a2 a3 a4 M z)

def fX1_unmark_J42 (l0 : Option Nat) (l1 : Int32) (l2 : Int32) (s0 : Int32) (M : Mp) (z : Nat) : Rs Int32 := (gr M l0 [1] 8).bind fun v1 =>
(si M 0 v1 (((2 : Int32) * l1) + l2) (-9 : Int32)).bind fun M2 =>
some (s0, M2, 0, 0)

theorem gX1_unmark_J42 {G : Cx} {F : Option Value × Mp × Nat} (hF : FX G cX1_unmark 4 RX1 (Option.some Jvm.ClassFile.FieldType.int) "unmark" 2 43) (l0 : Option Nat) (l1 : Int32) (l2 : Int32) (s0 : Int32) (M : Mp) (z : Nat) : SK G F 4 eI 42 [some (va_rf l0), some (.int l1), some (.int l2), none] [.int s0] M z (fX1_unmark_J42 l0 l1 l2 s0 M z) := by
  unfold fX1_unmark_J42
  refine s_istore_n (L9 := [some (va_rf l0), some (.int l1), some (.int l2), some (.int s0)]) (pc := 42) hF dX1_unmark_42 rfl (Nat.le_of_ble_eq_true rfl) rfl ?_
  refine s_aload_n (pc := 43) hF dX1_unmark_43 rfl rfl ?_
  refine s_getr (pc := 44) hF (fl_X1_31 hF) dX1_unmark_44 (fun v1 => ?_)
  refine s_iconst (pc := 47) hF dX1_unmark_47 (2 : Int32) (by decide) ?_
  refine s_iload_n (pc := 48) hF dX1_unmark_48 rfl rfl ?_
  refine s_imul (pc := 49) hF dX1_unmark_49 ?_
  refine s_iload_n (pc := 50) hF dX1_unmark_50 rfl rfl ?_
  refine s_iadd (pc := 51) hF dX1_unmark_51 ?_
  refine s_bipush (pc := 52) hF dX1_unmark_52 (-9 : Int32) (by decide) ?_
  refine s_iast (pc := 54) hF dX1_unmark_54 (fun M2 => ?_)
  refine s_iload_n (pc := 55) hF dX1_unmark_55 rfl rfl ?_
  exact s_iret (pc := 56) hF dX1_unmark_56
def fX1_unmark (a0 : Option Nat) (a1 : Int32) (a2 : Int32) (M : Mp) (z : Nat) : Rs Int32 := if ckc M a0 [1] = true then
  (cb (fX1_isBlock a0 a1 M z) z fun v1 M2 z3 =>
if v1 = 0 then
  (some ((-1 : Int32), M2, 0, 0))
else
  (cb (fX1_within a2 (0 : Int32) (1 : Int32) M2 z3) z3 fun v4 M5 z6 =>
if v4 = 0 then
  (some ((-2 : Int32), M5, 0, 0))
else
  ((gr M5 a0 [1] 8).bind fun v7 =>
(ai M5 0 v7 (((2 : Int32) * a1) + a2)).bind fun v8 =>
if v8 = (-9 : Int32) then
  (fX1_unmark_J42 a0 a1 a2 (0 : Int32) M5 z6)
else
  (fX1_unmark_J42 a0 a1 a2 (1 : Int32) M5 z6))))
else none
theorem gX1_unmark {G : Cx} {F : Option Value × Mp × Nat} (hF : FX G cX1_unmark 4 RX1 (Option.some Jvm.ClassFile.FieldType.int) "unmark" 2 43) (a0 : Option Nat) (a1 : Int32) (a2 : Int32) (M : Mp) (z : Nat) : SK G F 4 eI 0 [some (va_rf a0), some (.int a1), some (.int a2), none] [] M z (fX1_unmark a0 a1 a2 M z) := by
  unfold fX1_unmark
  refine s_aload_n (pc := 0) hF dX1_unmark_0 rfl rfl ?_
  refine s_iload_n (pc := 1) hF dX1_unmark_1 rfl rfl ?_
  refine s_callV (pc := 2) (As := [.int a1]) (st := []) (stf := fun r9 => .int r9 :: []) hF (mX1_isBlock a0 a1) cw_X1_isBlock q1158 q1160 (List.forall_mem_cons.mpr ⟨⟨(RX1, TX1, 34), rfl, qs28⟩, fun _ h9 => absurd h9 List.not_mem_nil⟩) rfl ⟨Nat.le_of_ble_eq_true rfl, Nat.le_of_ble_eq_true rfl⟩ ⟨trivial, Nat.le_of_ble_eq_true rfl⟩ dX1_unmark_2 rfl (fun _ => rfl) (fun v1 M2 z3 => ?_)
  refine s_if_ne (pc := 5) hF 10 dX1_unmark_5 rfl ?_ ?_
  · refine s_iload_n (pc := 10) hF dX1_unmark_10 rfl rfl ?_
    refine s_iconst (pc := 11) hF dX1_unmark_11 (0 : Int32) (by decide) ?_
    refine s_iconst (pc := 12) hF dX1_unmark_12 (1 : Int32) (by decide) ?_
    refine s_callS (pc := 13) (As := [.int a2, .int (0 : Int32), .int (1 : Int32)]) (st := []) (stf := fun r9 => .int r9 :: []) hF (mX1_within a2 (0 : Int32) (1 : Int32)) cw_X1_within q1147 q1148 rfl ⟨Nat.le_of_ble_eq_true rfl, Nat.le_of_ble_eq_true rfl⟩ ⟨trivial, Nat.le_of_ble_eq_true rfl⟩ dX1_unmark_13 rfl (fun _ => rfl) (fun v4 M5 z6 => ?_)
    refine s_if_ne (pc := 16) hF 22 dX1_unmark_16 rfl ?_ ?_
    · refine s_aload_n (pc := 22) hF dX1_unmark_22 rfl rfl ?_
      refine s_getr (pc := 23) hF (fl_X1_31 hF) dX1_unmark_23 (fun v7 => ?_)
      refine s_iconst (pc := 26) hF dX1_unmark_26 (2 : Int32) (by decide) ?_
      refine s_iload_n (pc := 27) hF dX1_unmark_27 rfl rfl ?_
      refine s_imul (pc := 28) hF dX1_unmark_28 ?_
      refine s_iload_n (pc := 29) hF dX1_unmark_29 rfl rfl ?_
      refine s_iadd (pc := 30) hF dX1_unmark_30 ?_
      refine s_iald (pc := 31) hF dX1_unmark_31 (fun v8 => ?_)
      refine s_bipush (pc := 32) hF dX1_unmark_32 (-9 : Int32) (by decide) ?_
      refine s_icmp_ne (pc := 34) hF 41 dX1_unmark_34 rfl ?_ ?_
      · refine s_iconst (pc := 41) hF dX1_unmark_41 (1 : Int32) (by decide) ?_
        exact SK.sb (gX1_unmark_J42 hF a0 a1 a2 (1 : Int32) M5 z6) ⟨rfl, ⟨rfl, ⟨rfl, trivial⟩⟩⟩
      · refine s_iconst (pc := 37) hF dX1_unmark_37 (0 : Int32) (by decide) ?_
        refine s_goto (pc := 38) hF 42 dX1_unmark_38 rfl ?_
        exact SK.sb (gX1_unmark_J42 hF a0 a1 a2 (0 : Int32) M5 z6) ⟨rfl, ⟨rfl, ⟨rfl, trivial⟩⟩⟩
    · refine s_bipush (pc := 19) hF dX1_unmark_19 (-2 : Int32) (by decide) ?_
      exact s_iret (pc := 21) hF dX1_unmark_21
  · refine s_iconst (pc := 8) hF dX1_unmark_8 (-1 : Int32) (by decide) ?_
    exact s_iret (pc := 9) hF dX1_unmark_9
theorem mX1_unmark (a0 : Option Nat) (a1 : Int32) (a2 : Int32) : MT yX1_unmark cX1_unmark 4 (Option.some Jvm.ClassFile.FieldType.int) 2 43 eI [va_rf a0, .int a1, .int a2] (fX1_unmark a0 a1 a2) :=
  MT.of (L0 := [some (va_rf a0), some (.int a1), some (.int a2), none]) (by decide) ⟨ct _, ⟨rfl, ⟨rfl, trivial⟩⟩⟩ (Nat.le_of_ble_eq_true rfl) rfl (fun _ _ hF M z => gX1_unmark hF a0 a1 a2 M z)

def fX1_ofMark (a0 : Option Nat) (a1 : Int32) (a2 : Int32) (a3 : Int32) (M : Mp) (z : Nat) : Rs Int32 := if ckc M a0 [1] = true then
  (cb (fX1_isBlock a0 a1 M z) z fun v1 M2 z3 =>
if v1 = 0 then
  (some ((-1 : Int32), M2, 0, 0))
else
  (cb (fX1_within a2 (0 : Int32) (1 : Int32) M2 z3) z3 fun v4 M5 z6 =>
if v4 = 0 then
  (some ((-2 : Int32), M5, 0, 0))
else
  (cb (fX1_within a3 (0 : Int32) (1 : Int32) M5 z6) z6 fun v7 M8 z9 =>
if v7 = 0 then
  (some ((-2 : Int32), M8, 0, 0))
else
  ((gr M8 a0 [1] 8).bind fun v10 =>
(ai M8 0 v10 (((2 : Int32) * a1) + a2)).bind fun v11 =>
if v11 = (-9 : Int32) then
  (some (v11, M8, 0, 0))
else
  (if a3 = 0 then
  (some (v11, M8, 0, 0))
else
  ((gr M8 a0 [1] 9).bind fun v12 =>
(ai M8 0 v12 (((2 : Int32) * a1) + a2)).bind fun v13 =>
some (v13, M8, 0, 0)))))))
else none
theorem gX1_ofMark {G : Cx} {F : Option Value × Mp × Nat} (hF : FX G cX1_ofMark 5 RX1 (Option.some Jvm.ClassFile.FieldType.int) "ofMark" 2 43) (a0 : Option Nat) (a1 : Int32) (a2 : Int32) (a3 : Int32) (M : Mp) (z : Nat) : SK G F 5 eI 0 [some (va_rf a0), some (.int a1), some (.int a2), some (.int a3), none] [] M z (fX1_ofMark a0 a1 a2 a3 M z) := by
  unfold fX1_ofMark
  refine s_aload_n (pc := 0) hF dX1_ofMark_0 rfl rfl ?_
  refine s_iload_n (pc := 1) hF dX1_ofMark_1 rfl rfl ?_
  refine s_callV (pc := 2) (As := [.int a1]) (st := []) (stf := fun r9 => .int r9 :: []) hF (mX1_isBlock a0 a1) cw_X1_isBlock q1158 q1160 (List.forall_mem_cons.mpr ⟨⟨(RX1, TX1, 34), rfl, qs28⟩, fun _ h9 => absurd h9 List.not_mem_nil⟩) rfl ⟨Nat.le_of_ble_eq_true rfl, Nat.le_of_ble_eq_true rfl⟩ ⟨trivial, Nat.le_of_ble_eq_true rfl⟩ dX1_ofMark_2 rfl (fun _ => rfl) (fun v1 M2 z3 => ?_)
  refine s_if_ne (pc := 5) hF 10 dX1_ofMark_5 rfl ?_ ?_
  · refine s_iload_n (pc := 10) hF dX1_ofMark_10 rfl rfl ?_
    refine s_iconst (pc := 11) hF dX1_ofMark_11 (0 : Int32) (by decide) ?_
    refine s_iconst (pc := 12) hF dX1_ofMark_12 (1 : Int32) (by decide) ?_
    refine s_callS (pc := 13) (As := [.int a2, .int (0 : Int32), .int (1 : Int32)]) (st := []) (stf := fun r9 => .int r9 :: []) hF (mX1_within a2 (0 : Int32) (1 : Int32)) cw_X1_within q1147 q1148 rfl ⟨Nat.le_of_ble_eq_true rfl, Nat.le_of_ble_eq_true rfl⟩ ⟨trivial, Nat.le_of_ble_eq_true rfl⟩ dX1_ofMark_13 rfl (fun _ => rfl) (fun v4 M5 z6 => ?_)
    refine s_if_eq (pc := 16) hF 28 dX1_ofMark_16 rfl ?_ ?_
    · refine s_bipush (pc := 28) hF dX1_ofMark_28 (-2 : Int32) (by decide) ?_
      exact s_iret (pc := 30) hF dX1_ofMark_30
    · refine s_iload_n (pc := 19) hF dX1_ofMark_19 rfl rfl ?_
      refine s_iconst (pc := 20) hF dX1_ofMark_20 (0 : Int32) (by decide) ?_
      refine s_iconst (pc := 21) hF dX1_ofMark_21 (1 : Int32) (by decide) ?_
      refine s_callS (pc := 22) (As := [.int a3, .int (0 : Int32), .int (1 : Int32)]) (st := []) (stf := fun r9 => .int r9 :: []) hF (mX1_within a3 (0 : Int32) (1 : Int32)) cw_X1_within q1147 q1148 rfl ⟨Nat.le_of_ble_eq_true rfl, Nat.le_of_ble_eq_true rfl⟩ ⟨trivial, Nat.le_of_ble_eq_true rfl⟩ dX1_ofMark_22 rfl (fun _ => rfl) (fun v7 M8 z9 => ?_)
      refine s_if_ne (pc := 25) hF 31 dX1_ofMark_25 rfl ?_ ?_
      · refine s_aload_n (pc := 31) hF dX1_ofMark_31 rfl rfl ?_
        refine s_getr (pc := 32) hF (fl_X1_31 hF) dX1_ofMark_32 (fun v10 => ?_)
        refine s_iconst (pc := 35) hF dX1_ofMark_35 (2 : Int32) (by decide) ?_
        refine s_iload_n (pc := 36) hF dX1_ofMark_36 rfl rfl ?_
        refine s_imul (pc := 37) hF dX1_ofMark_37 ?_
        refine s_iload_n (pc := 38) hF dX1_ofMark_38 rfl rfl ?_
        refine s_iadd (pc := 39) hF dX1_ofMark_39 ?_
        refine s_iald (pc := 40) hF dX1_ofMark_40 (fun v11 => ?_)
        refine s_istore (L9 := [some (va_rf a0), some (.int a1), some (.int a2), some (.int a3), some (.int v11)]) (pc := 41) hF dX1_ofMark_41 (Nat.le_of_ble_eq_true rfl) rfl ?_
        refine s_iload (pc := 43) hF dX1_ofMark_43 rfl ?_
        refine s_bipush (pc := 45) hF dX1_ofMark_45 (-9 : Int32) (by decide) ?_
        refine s_icmp_eq (pc := 47) hF 54 dX1_ofMark_47 rfl ?_ ?_
        · refine s_iload (pc := 54) hF dX1_ofMark_54 rfl ?_
          refine s_goto (pc := 56) hF 69 dX1_ofMark_56 rfl ?_
          exact s_iret (pc := 69) hF dX1_ofMark_69
        · refine s_iload_n (pc := 50) hF dX1_ofMark_50 rfl rfl ?_
          refine s_if_ne (pc := 51) hF 59 dX1_ofMark_51 rfl ?_ ?_
          · refine s_aload_n (pc := 59) hF dX1_ofMark_59 rfl rfl ?_
            refine s_getr (pc := 60) hF (fl_X1_34 hF) dX1_ofMark_60 (fun v12 => ?_)
            refine s_iconst (pc := 63) hF dX1_ofMark_63 (2 : Int32) (by decide) ?_
            refine s_iload_n (pc := 64) hF dX1_ofMark_64 rfl rfl ?_
            refine s_imul (pc := 65) hF dX1_ofMark_65 ?_
            refine s_iload_n (pc := 66) hF dX1_ofMark_66 rfl rfl ?_
            refine s_iadd (pc := 67) hF dX1_ofMark_67 ?_
            refine s_iald (pc := 68) hF dX1_ofMark_68 (fun v13 => ?_)
            exact s_iret (pc := 69) hF dX1_ofMark_69
          · refine s_iload (pc := 54) hF dX1_ofMark_54 rfl ?_
            refine s_goto (pc := 56) hF 69 dX1_ofMark_56 rfl ?_
            exact s_iret (pc := 69) hF dX1_ofMark_69
      · refine s_bipush (pc := 28) hF dX1_ofMark_28 (-2 : Int32) (by decide) ?_
        exact s_iret (pc := 30) hF dX1_ofMark_30
  · refine s_iconst (pc := 8) hF dX1_ofMark_8 (-1 : Int32) (by decide) ?_
    exact s_iret (pc := 9) hF dX1_ofMark_9
theorem mX1_ofMark (a0 : Option Nat) (a1 : Int32) (a2 : Int32) (a3 : Int32) : MT yX1_ofMark cX1_ofMark 5 (Option.some Jvm.ClassFile.FieldType.int) 2 43 eI [va_rf a0, .int a1, .int a2, .int a3] (fX1_ofMark a0 a1 a2 a3) :=
  MT.of (L0 := [some (va_rf a0), some (.int a1), some (.int a2), some (.int a3), none]) (by decide) ⟨ct _, ⟨rfl, ⟨rfl, ⟨rfl, trivial⟩⟩⟩⟩ (Nat.le_of_ble_eq_true rfl) rfl (fun _ _ hF M z => gX1_ofMark hF a0 a1 a2 a3 M z)

def fX1_onwardOf_J58 (r13 : Option Nat → Int32 → Int32 → Int32 → Mp → Nat → Rs Int32) (l0 : Option Nat) (l3 : Int32) (l4 : Int32) (s0 : Int32) (M : Mp) (z : Nat) : Rs Int32 := r13 l0 s0 l3 (l4 + 1) M z

theorem gX1_onwardOf_J58 {G : Cx} {F : Option Value × Mp × Nat}  {r13 : Option Nat → Int32 → Int32 → Int32 → Mp → Nat → Rs Int32}(hF : FX G cX1_onwardOf 6 RX1 (Option.some Jvm.ClassFile.FieldType.int) "onwardOf" 0 0) (hr13 : ∀ l0 l2 l3 l4 M z, SK G F 6 eI 13 [some (va_rf l0), none, some (.int l2), some (.int l3), some (.int l4), none] [] M z (r13 l0 l2 l3 l4 M z)) (l0 : Option Nat) (l3 : Int32) (l4 : Int32) (s0 : Int32) (M : Mp) (z : Nat) : SK G F 6 eI 58 [some (va_rf l0), none, none, some (.int l3), some (.int l4), none] [.int s0] M z (fX1_onwardOf_J58 r13 l0 l3 l4 s0 M z) := by
  unfold fX1_onwardOf_J58
  refine s_istore_n (L9 := [some (va_rf l0), none, some (.int s0), some (.int l3), some (.int l4), none]) (pc := 58) hF dX1_onwardOf_58 rfl (Nat.le_of_ble_eq_true rfl) rfl ?_
  refine s_iinc (v := l4 + 1) (L9 := [some (va_rf l0), none, some (.int s0), some (.int l3), some (.int (l4 + 1)), none]) (pc := 59) hF dX1_onwardOf_59 rfl rfl (Nat.le_of_ble_eq_true rfl) rfl ?_
  refine s_goto (pc := 62) hF 13 dX1_onwardOf_62 rfl ?_
  exact SK.sb (hr13 l0 s0 l3 (l4 + 1) M z) ⟨rfl, ⟨rfl, ⟨rfl, ⟨rfl, trivial⟩⟩⟩⟩

def fX1_onwardOf_L13 : Nat → Option Nat → Int32 → Int32 → Int32 → Mp → Nat → Rs Int32
  | 0, _, _, _, _, _, _ => none
  | fu + 1, l0, l2, l3, l4, M, z => (gr M l0 [1] 19).bind fun v1 =>
(ai M 0 v1 l3).bind fun v2 =>
if l4 < v2 then
  ((gr M l0 [1] 20).bind fun v3 =>
(ai M 0 v3 (((24 : Int32) * l3) + l4)).bind fun v4 =>
(gr M l0 [1] 8).bind fun v5 =>
(ai M 0 v5 ((2 : Int32) * v4)).bind fun v6 =>
if v6 = (-9 : Int32) then
  (fX1_onwardOf_J58 (fX1_onwardOf_L13 fu) l0 l3 l4 l2 M z)
else
  (fX1_onwardOf_J58 (fX1_onwardOf_L13 fu) l0 l3 l4 v4 M z))
else
  (some (l2, M, 0, 0))

theorem gX1_onwardOf_L13 {G : Cx} {F : Option Value × Mp × Nat} (hF : FX G cX1_onwardOf 6 RX1 (Option.some Jvm.ClassFile.FieldType.int) "onwardOf" 0 0) : ∀ (fu : Nat) (l0 : Option Nat) (l2 : Int32) (l3 : Int32) (l4 : Int32) (M : Mp) (z : Nat), SK G F 6 eI 13 [some (va_rf l0), none, some (.int l2), some (.int l3), some (.int l4), none] [] M z (fX1_onwardOf_L13 fu l0 l2 l3 l4 M z) := by
  intro fu
  induction fu with
  | zero => intros; exact SK.fail
  | succ fu ih =>
    intro l0 l2 l3 l4 M z
    rw [fX1_onwardOf_L13]
    refine s_iload (pc := 13) hF dX1_onwardOf_13 rfl ?_
    refine s_aload_n (pc := 15) hF dX1_onwardOf_15 rfl rfl ?_
    refine s_getr (pc := 16) hF (fl_X1_61 hF) dX1_onwardOf_16 (fun v1 => ?_)
    refine s_iload_n (pc := 19) hF dX1_onwardOf_19 rfl rfl ?_
    refine s_iald (pc := 20) hF dX1_onwardOf_20 (fun v2 => ?_)
    refine s_icmp_ge (pc := 21) hF 65 dX1_onwardOf_21 rfl ?_ ?_
    · refine s_iload_n (pc := 65) hF dX1_onwardOf_65 rfl rfl ?_
      exact s_iret (pc := 66) hF dX1_onwardOf_66
    · refine s_aload_n (pc := 24) hF dX1_onwardOf_24 rfl rfl ?_
      refine s_getr (pc := 25) hF (fl_X1_64 hF) dX1_onwardOf_25 (fun v3 => ?_)
      refine s_bipush (pc := 28) hF dX1_onwardOf_28 (24 : Int32) (by decide) ?_
      refine s_iload_n (pc := 30) hF dX1_onwardOf_30 rfl rfl ?_
      refine s_imul (pc := 31) hF dX1_onwardOf_31 ?_
      refine s_iload (pc := 32) hF dX1_onwardOf_32 rfl ?_
      refine s_iadd (pc := 34) hF dX1_onwardOf_34 ?_
      refine s_iald (pc := 35) hF dX1_onwardOf_35 (fun v4 => ?_)
      refine s_istore (L9 := [some (va_rf l0), none, some (.int l2), some (.int l3), some (.int l4), some (.int v4)]) (pc := 36) hF dX1_onwardOf_36 (Nat.le_of_ble_eq_true rfl) rfl ?_
      refine s_aload_n (pc := 38) hF dX1_onwardOf_38 rfl rfl ?_
      refine s_getr (pc := 39) hF (fl_X1_31 hF) dX1_onwardOf_39 (fun v5 => ?_)
      refine s_iconst (pc := 42) hF dX1_onwardOf_42 (2 : Int32) (by decide) ?_
      refine s_iload (pc := 43) hF dX1_onwardOf_43 rfl ?_
      refine s_imul (pc := 45) hF dX1_onwardOf_45 ?_
      refine s_iald (pc := 46) hF dX1_onwardOf_46 (fun v6 => ?_)
      refine s_bipush (pc := 47) hF dX1_onwardOf_47 (-9 : Int32) (by decide) ?_
      refine s_icmp_ne (pc := 49) hF 56 dX1_onwardOf_49 rfl ?_ ?_
      · refine s_iload (pc := 56) hF dX1_onwardOf_56 rfl ?_
        exact SK.sb (gX1_onwardOf_J58 hF ih l0 l3 l4 v4 M z) ⟨rfl, ⟨rfl, ⟨rfl, trivial⟩⟩⟩
      · refine s_iload_n (pc := 52) hF dX1_onwardOf_52 rfl rfl ?_
        refine s_goto (pc := 53) hF 58 dX1_onwardOf_53 rfl ?_
        exact SK.sb (gX1_onwardOf_J58 hF ih l0 l3 l4 l2 M z) ⟨rfl, ⟨rfl, ⟨rfl, trivial⟩⟩⟩
def fX1_onwardOf (a0 : Option Nat) (a1 : Int32) (M : Mp) (z : Nat) : Rs Int32 := (gr M a0 [1] 22).bind fun v1 =>
(ai M 0 v1 a1).bind fun v2 =>
fX1_onwardOf_L13 FU a0 (-9 : Int32) v2 (0 : Int32) M z
theorem gX1_onwardOf {G : Cx} {F : Option Value × Mp × Nat} (hF : FX G cX1_onwardOf 6 RX1 (Option.some Jvm.ClassFile.FieldType.int) "onwardOf" 0 0) (a0 : Option Nat) (a1 : Int32) (M : Mp) (z : Nat) : SK G F 6 eI 0 [some (va_rf a0), some (.int a1), none, none, none, none] [] M z (fX1_onwardOf a0 a1 M z) := by
  unfold fX1_onwardOf
  refine s_bipush (pc := 0) hF dX1_onwardOf_0 (-9 : Int32) (by decide) ?_
  refine s_istore_n (L9 := [some (va_rf a0), some (.int a1), some (.int (-9 : Int32)), none, none, none]) (pc := 2) hF dX1_onwardOf_2 rfl (Nat.le_of_ble_eq_true rfl) rfl ?_
  refine s_aload_n (pc := 3) hF dX1_onwardOf_3 rfl rfl ?_
  refine s_getr (pc := 4) hF (fl_X1_67 hF) dX1_onwardOf_4 (fun v1 => ?_)
  refine s_iload_n (pc := 7) hF dX1_onwardOf_7 rfl rfl ?_
  refine s_iald (pc := 8) hF dX1_onwardOf_8 (fun v2 => ?_)
  refine s_istore_n (L9 := [some (va_rf a0), some (.int a1), some (.int (-9 : Int32)), some (.int v2), none, none]) (pc := 9) hF dX1_onwardOf_9 rfl (Nat.le_of_ble_eq_true rfl) rfl ?_
  refine s_iconst (pc := 10) hF dX1_onwardOf_10 (0 : Int32) (by decide) ?_
  refine s_istore (L9 := [some (va_rf a0), some (.int a1), some (.int (-9 : Int32)), some (.int v2), some (.int (0 : Int32)), none]) (pc := 11) hF dX1_onwardOf_11 (Nat.le_of_ble_eq_true rfl) rfl ?_
  exact SK.sb (gX1_onwardOf_L13 hF FU a0 (-9 : Int32) v2 (0 : Int32) M z) ⟨rfl, ⟨rfl, ⟨rfl, ⟨rfl, trivial⟩⟩⟩⟩
theorem mX1_onwardOf (a0 : Option Nat) (a1 : Int32) : MT yX1_onwardOf cX1_onwardOf 6 (Option.some Jvm.ClassFile.FieldType.int) 0 0 eI [va_rf a0, .int a1] (fX1_onwardOf a0 a1) :=
  MT.of (L0 := [some (va_rf a0), some (.int a1), none, none, none, none]) (by decide) ⟨ct _, ⟨rfl, trivial⟩⟩ (Nat.le_of_ble_eq_true rfl) rfl (fun _ _ hF M z => gX1_onwardOf hF a0 a1 M z)

def fX1_aimBy_J94 (r2 : Option Nat → Int32 → Int32 → Mp → Nat → Rs Int32) (l0 : Option Nat) (l1 : Int32) (l2 : Int32) (M : Mp) (z : Nat) : Rs Int32 := r2 l0 l1 (l2 + 1) M z

theorem gX1_aimBy_J94 {G : Cx} {F : Option Value × Mp × Nat}  {r2 : Option Nat → Int32 → Int32 → Mp → Nat → Rs Int32}(hF : FX G cX1_aimBy 4 RX1 (Option.some Jvm.ClassFile.FieldType.int) "aimBy" 0 0) (hr2 : ∀ l0 l1 l2 M z, SK G F 4 eI 2 [some (va_rf l0), some (.int l1), some (.int l2), none] [] M z (r2 l0 l1 l2 M z)) (l0 : Option Nat) (l1 : Int32) (l2 : Int32) (M : Mp) (z : Nat) : SK G F 4 eI 94 [some (va_rf l0), some (.int l1), some (.int l2), none] [] M z (fX1_aimBy_J94 r2 l0 l1 l2 M z) := by
  unfold fX1_aimBy_J94
  refine s_iinc (v := l2 + 1) (L9 := [some (va_rf l0), some (.int l1), some (.int (l2 + 1)), none]) (pc := 94) hF dX1_aimBy_94 rfl rfl (Nat.le_of_ble_eq_true rfl) rfl ?_
  refine s_goto (pc := 97) hF 2 dX1_aimBy_97 rfl ?_
  exact SK.sb (hr2 l0 l1 (l2 + 1) M z) ⟨rfl, ⟨rfl, ⟨rfl, trivial⟩⟩⟩

def fX1_aimBy_J61 (r2 : Option Nat → Int32 → Int32 → Mp → Nat → Rs Int32) (l0 : Option Nat) (l1 : Int32) (l2 : Int32) (s0 : Int32) (M : Mp) (z : Nat) : Rs Int32 := if s0 = 0 then
  (fX1_aimBy_J94 r2 l0 l1 l2 M z)
else
  ((gr M l0 [1] 9).bind fun v1 =>
(ai M 0 v1 (((2 : Int32) * l2) + (1 : Int32))).bind fun v2 =>
(gr M l0 [1] 9).bind fun v3 =>
(ai M 0 v3 ((2 : Int32) * l1)).bind fun v4 =>
if v2 = v4 then
  ((gr M l0 [1] 23).bind fun v5 =>
(ai M 0 v5 l2).bind fun v6 =>
some (v6, M, 0, 0))
else
  (fX1_aimBy_J94 r2 l0 l1 l2 M z))

theorem gX1_aimBy_J61 {G : Cx} {F : Option Value × Mp × Nat}  {r2 : Option Nat → Int32 → Int32 → Mp → Nat → Rs Int32}(hF : FX G cX1_aimBy 4 RX1 (Option.some Jvm.ClassFile.FieldType.int) "aimBy" 0 0) (hr2 : ∀ l0 l1 l2 M z, SK G F 4 eI 2 [some (va_rf l0), some (.int l1), some (.int l2), none] [] M z (r2 l0 l1 l2 M z)) (l0 : Option Nat) (l1 : Int32) (l2 : Int32) (s0 : Int32) (M : Mp) (z : Nat) : SK G F 4 eI 61 [some (va_rf l0), some (.int l1), some (.int l2), none] [.int s0] M z (fX1_aimBy_J61 r2 l0 l1 l2 s0 M z) := by
  unfold fX1_aimBy_J61
  refine s_istore_n (L9 := [some (va_rf l0), some (.int l1), some (.int l2), some (.int s0)]) (pc := 61) hF dX1_aimBy_61 rfl (Nat.le_of_ble_eq_true rfl) rfl ?_
  refine s_iload_n (pc := 62) hF dX1_aimBy_62 rfl rfl ?_
  refine s_if_eq (pc := 63) hF 94 dX1_aimBy_63 rfl ?_ ?_
  · exact SK.sb (gX1_aimBy_J94 hF hr2 l0 l1 l2 M z) ⟨rfl, ⟨rfl, ⟨rfl, trivial⟩⟩⟩
  · refine s_aload_n (pc := 66) hF dX1_aimBy_66 rfl rfl ?_
    refine s_getr (pc := 67) hF (fl_X1_34 hF) dX1_aimBy_67 (fun v1 => ?_)
    refine s_iconst (pc := 70) hF dX1_aimBy_70 (2 : Int32) (by decide) ?_
    refine s_iload_n (pc := 71) hF dX1_aimBy_71 rfl rfl ?_
    refine s_imul (pc := 72) hF dX1_aimBy_72 ?_
    refine s_iconst (pc := 73) hF dX1_aimBy_73 (1 : Int32) (by decide) ?_
    refine s_iadd (pc := 74) hF dX1_aimBy_74 ?_
    refine s_iald (pc := 75) hF dX1_aimBy_75 (fun v2 => ?_)
    refine s_aload_n (pc := 76) hF dX1_aimBy_76 rfl rfl ?_
    refine s_getr (pc := 77) hF (fl_X1_34 hF) dX1_aimBy_77 (fun v3 => ?_)
    refine s_iconst (pc := 80) hF dX1_aimBy_80 (2 : Int32) (by decide) ?_
    refine s_iload_n (pc := 81) hF dX1_aimBy_81 rfl rfl ?_
    refine s_imul (pc := 82) hF dX1_aimBy_82 ?_
    refine s_iald (pc := 83) hF dX1_aimBy_83 (fun v4 => ?_)
    refine s_icmp_ne (pc := 84) hF 94 dX1_aimBy_84 rfl ?_ ?_
    · exact SK.sb (gX1_aimBy_J94 hF hr2 l0 l1 l2 M z) ⟨rfl, ⟨rfl, ⟨rfl, trivial⟩⟩⟩
    · refine s_aload_n (pc := 87) hF dX1_aimBy_87 rfl rfl ?_
      refine s_getr (pc := 88) hF (fl_X1_70 hF) dX1_aimBy_88 (fun v5 => ?_)
      refine s_iload_n (pc := 91) hF dX1_aimBy_91 rfl rfl ?_
      refine s_iald (pc := 92) hF dX1_aimBy_92 (fun v6 => ?_)
      exact s_iret (pc := 93) hF dX1_aimBy_93

def fX1_aimBy_L2 : Nat → Option Nat → Int32 → Int32 → Mp → Nat → Rs Int32
  | 0, _, _, _, _, _ => none
  | fu + 1, l0, l1, l2, M, z => (gi M l0 [1] 0).bind fun v1 =>
if l2 < v1 then
  ((gr M l0 [1] 2).bind fun v2 =>
(ai M 0 v2 l2).bind fun v3 =>
if v3 = (2 : Int32) then
  (fX1_aimBy_J61 (fX1_aimBy_L2 fu) l0 l1 l2 (0 : Int32) M z)
else
  ((gr M l0 [1] 1).bind fun v4 =>
(ai M 0 v4 l2).bind fun v5 =>
(gr M l0 [1] 8).bind fun v6 =>
(ai M 0 v6 ((2 : Int32) * l1)).bind fun v7 =>
if v5 = v7 then
  ((gr M l0 [1] 8).bind fun v8 =>
(ai M 0 v8 (((2 : Int32) * l2) + (1 : Int32))).bind fun v9 =>
(gr M l0 [1] 1).bind fun v10 =>
(ai M 0 v10 l1).bind fun v11 =>
if v9 = v11 then
  (fX1_aimBy_J61 (fX1_aimBy_L2 fu) l0 l1 l2 (1 : Int32) M z)
else
  (fX1_aimBy_J61 (fX1_aimBy_L2 fu) l0 l1 l2 (0 : Int32) M z))
else
  (fX1_aimBy_J61 (fX1_aimBy_L2 fu) l0 l1 l2 (0 : Int32) M z)))
else
  (some ((-9 : Int32), M, 0, 0))

theorem gX1_aimBy_L2 {G : Cx} {F : Option Value × Mp × Nat} (hF : FX G cX1_aimBy 4 RX1 (Option.some Jvm.ClassFile.FieldType.int) "aimBy" 0 0) : ∀ (fu : Nat) (l0 : Option Nat) (l1 : Int32) (l2 : Int32) (M : Mp) (z : Nat), SK G F 4 eI 2 [some (va_rf l0), some (.int l1), some (.int l2), none] [] M z (fX1_aimBy_L2 fu l0 l1 l2 M z) := by
  intro fu
  induction fu with
  | zero => intros; exact SK.fail
  | succ fu ih =>
    intro l0 l1 l2 M z
    rw [fX1_aimBy_L2]
    refine s_iload_n (pc := 2) hF dX1_aimBy_2 rfl rfl ?_
    refine s_aload_n (pc := 3) hF dX1_aimBy_3 rfl rfl ?_
    refine s_geti (pc := 4) hF (fl_X1_98 hF) dX1_aimBy_4 (fun v1 => ?_)
    refine s_icmp_ge (pc := 7) hF 100 dX1_aimBy_7 rfl ?_ ?_
    · refine s_bipush (pc := 100) hF dX1_aimBy_100 (-9 : Int32) (by decide) ?_
      exact s_iret (pc := 102) hF dX1_aimBy_102
    · refine s_aload_n (pc := 10) hF dX1_aimBy_10 rfl rfl ?_
      refine s_getr (pc := 11) hF (fl_X1_13 hF) dX1_aimBy_11 (fun v2 => ?_)
      refine s_iload_n (pc := 14) hF dX1_aimBy_14 rfl rfl ?_
      refine s_iald (pc := 15) hF dX1_aimBy_15 (fun v3 => ?_)
      refine s_iconst (pc := 16) hF dX1_aimBy_16 (2 : Int32) (by decide) ?_
      refine s_icmp_eq (pc := 17) hF 60 dX1_aimBy_17 rfl ?_ ?_
      · refine s_iconst (pc := 60) hF dX1_aimBy_60 (0 : Int32) (by decide) ?_
        exact SK.sb (gX1_aimBy_J61 hF ih l0 l1 l2 (0 : Int32) M z) ⟨rfl, ⟨rfl, ⟨rfl, trivial⟩⟩⟩
      · refine s_aload_n (pc := 20) hF dX1_aimBy_20 rfl rfl ?_
        refine s_getr (pc := 21) hF (fl_X1_7 hF) dX1_aimBy_21 (fun v4 => ?_)
        refine s_iload_n (pc := 24) hF dX1_aimBy_24 rfl rfl ?_
        refine s_iald (pc := 25) hF dX1_aimBy_25 (fun v5 => ?_)
        refine s_aload_n (pc := 26) hF dX1_aimBy_26 rfl rfl ?_
        refine s_getr (pc := 27) hF (fl_X1_31 hF) dX1_aimBy_27 (fun v6 => ?_)
        refine s_iconst (pc := 30) hF dX1_aimBy_30 (2 : Int32) (by decide) ?_
        refine s_iload_n (pc := 31) hF dX1_aimBy_31 rfl rfl ?_
        refine s_imul (pc := 32) hF dX1_aimBy_32 ?_
        refine s_iald (pc := 33) hF dX1_aimBy_33 (fun v7 => ?_)
        refine s_icmp_ne (pc := 34) hF 60 dX1_aimBy_34 rfl ?_ ?_
        · refine s_iconst (pc := 60) hF dX1_aimBy_60 (0 : Int32) (by decide) ?_
          exact SK.sb (gX1_aimBy_J61 hF ih l0 l1 l2 (0 : Int32) M z) ⟨rfl, ⟨rfl, ⟨rfl, trivial⟩⟩⟩
        · refine s_aload_n (pc := 37) hF dX1_aimBy_37 rfl rfl ?_
          refine s_getr (pc := 38) hF (fl_X1_31 hF) dX1_aimBy_38 (fun v8 => ?_)
          refine s_iconst (pc := 41) hF dX1_aimBy_41 (2 : Int32) (by decide) ?_
          refine s_iload_n (pc := 42) hF dX1_aimBy_42 rfl rfl ?_
          refine s_imul (pc := 43) hF dX1_aimBy_43 ?_
          refine s_iconst (pc := 44) hF dX1_aimBy_44 (1 : Int32) (by decide) ?_
          refine s_iadd (pc := 45) hF dX1_aimBy_45 ?_
          refine s_iald (pc := 46) hF dX1_aimBy_46 (fun v9 => ?_)
          refine s_aload_n (pc := 47) hF dX1_aimBy_47 rfl rfl ?_
          refine s_getr (pc := 48) hF (fl_X1_7 hF) dX1_aimBy_48 (fun v10 => ?_)
          refine s_iload_n (pc := 51) hF dX1_aimBy_51 rfl rfl ?_
          refine s_iald (pc := 52) hF dX1_aimBy_52 (fun v11 => ?_)
          refine s_icmp_ne (pc := 53) hF 60 dX1_aimBy_53 rfl ?_ ?_
          · refine s_iconst (pc := 60) hF dX1_aimBy_60 (0 : Int32) (by decide) ?_
            exact SK.sb (gX1_aimBy_J61 hF ih l0 l1 l2 (0 : Int32) M z) ⟨rfl, ⟨rfl, ⟨rfl, trivial⟩⟩⟩
          · refine s_iconst (pc := 56) hF dX1_aimBy_56 (1 : Int32) (by decide) ?_
            refine s_goto (pc := 57) hF 61 dX1_aimBy_57 rfl ?_
            exact SK.sb (gX1_aimBy_J61 hF ih l0 l1 l2 (1 : Int32) M z) ⟨rfl, ⟨rfl, ⟨rfl, trivial⟩⟩⟩
def fX1_aimBy (a0 : Option Nat) (a1 : Int32) (M : Mp) (z : Nat) : Rs Int32 := fX1_aimBy_L2 FU a0 a1 (0 : Int32) M z
theorem gX1_aimBy {G : Cx} {F : Option Value × Mp × Nat} (hF : FX G cX1_aimBy 4 RX1 (Option.some Jvm.ClassFile.FieldType.int) "aimBy" 0 0) (a0 : Option Nat) (a1 : Int32) (M : Mp) (z : Nat) : SK G F 4 eI 0 [some (va_rf a0), some (.int a1), none, none] [] M z (fX1_aimBy a0 a1 M z) := by
  unfold fX1_aimBy
  refine s_iconst (pc := 0) hF dX1_aimBy_0 (0 : Int32) (by decide) ?_
  refine s_istore_n (L9 := [some (va_rf a0), some (.int a1), some (.int (0 : Int32)), none]) (pc := 1) hF dX1_aimBy_1 rfl (Nat.le_of_ble_eq_true rfl) rfl ?_
  exact SK.sb (gX1_aimBy_L2 hF FU a0 a1 (0 : Int32) M z) ⟨rfl, ⟨rfl, ⟨rfl, trivial⟩⟩⟩
theorem mX1_aimBy (a0 : Option Nat) (a1 : Int32) : MT yX1_aimBy cX1_aimBy 4 (Option.some Jvm.ClassFile.FieldType.int) 0 0 eI [va_rf a0, .int a1] (fX1_aimBy a0 a1) :=
  MT.of (L0 := [some (va_rf a0), some (.int a1), none, none]) (by decide) ⟨ct _, ⟨rfl, trivial⟩⟩ (Nat.le_of_ble_eq_true rfl) rfl (fun _ _ hF M z => gX1_aimBy hF a0 a1 M z)

theorem fl_X1_86 {G : Cx} {nL fr lc : Nat} {cc : ByteArray} {ret : Option FieldType} {nm : String} (hF : FX G cc nL RX1 ret nm fr lc) : ∀ c ∈ [1], GF G RX1 86 c 29 := by
  obtain ⟨⟨p, l, e, R, s, m, args, below, meth, c0⟩, A, D, dA, mi⟩ := G
  obtain ⟨hx, hb, hml, hown, hts, hr, hlk, hK, hnm, hfr, hlc⟩ := hF
  exact List.forall_mem_cons.mpr ⟨⟨RX1, TX1, 34, "StoryColumnsModel", rfl, in_X1, Nat.le_of_ble_eq_true rfl, Or.inl (hts _ q1067), fun _ h => h⟩, fun _ h9 => absurd h9 List.not_mem_nil⟩
theorem fl_X1_162 {G : Cx} {nL fr lc : Nat} {cc : ByteArray} {ret : Option FieldType} {nm : String} (hF : FX G cc nL RX1 ret nm fr lc) : ∀ c ∈ [1], GF G RX1 162 c 28 := by
  obtain ⟨⟨p, l, e, R, s, m, args, below, meth, c0⟩, A, D, dA, mi⟩ := G
  obtain ⟨hx, hb, hml, hown, hts, hr, hlk, hK, hnm, hfr, hlc⟩ := hF
  exact List.forall_mem_cons.mpr ⟨⟨RX1, TX1, 34, "StoryColumnsModel", rfl, in_X1, Nat.le_of_ble_eq_true rfl, Or.inl (hts _ q1066), fun _ h => h⟩, fun _ h9 => absurd h9 List.not_mem_nil⟩
theorem fl_X1_165 {G : Cx} {nL fr lc : Nat} {cc : ByteArray} {ret : Option FieldType} {nm : String} (hF : FX G cc nL RX1 ret nm fr lc) : ∀ c ∈ [1], GF G RX1 165 c 33 := by
  obtain ⟨⟨p, l, e, R, s, m, args, below, meth, c0⟩, A, D, dA, mi⟩ := G
  obtain ⟨hx, hb, hml, hown, hts, hr, hlk, hK, hnm, hfr, hlc⟩ := hF
  exact List.forall_mem_cons.mpr ⟨⟨RX1, TX1, 34, "StoryColumnsModel", rfl, in_X1, Nat.le_of_ble_eq_true rfl, Or.inl (hts _ q1071), fun _ h => h⟩, fun _ h9 => absurd h9 List.not_mem_nil⟩
theorem fl_X1_89 {G : Cx} {nL fr lc : Nat} {cc : ByteArray} {ret : Option FieldType} {nm : String} (hF : FX G cc nL RX1 ret nm fr lc) : ∀ c ∈ [1], GF G RX1 89 c 30 := by
  obtain ⟨⟨p, l, e, R, s, m, args, below, meth, c0⟩, A, D, dA, mi⟩ := G
  obtain ⟨hx, hb, hml, hown, hts, hr, hlk, hK, hnm, hfr, hlc⟩ := hF
  exact List.forall_mem_cons.mpr ⟨⟨RX1, TX1, 34, "StoryColumnsModel", rfl, in_X1, Nat.le_of_ble_eq_true rfl, Or.inl (hts _ q1068), fun _ h => h⟩, fun _ h9 => absurd h9 List.not_mem_nil⟩
theorem pl_X1_162 {G : Cx} {nL fr lc : Nat} {cc : ByteArray} {ret : Option FieldType} {nm : String} (hF : FX G cc nL RX1 ret nm fr lc) (x9 : Int32) : ∀ c ∈ [1], PF G RX1 nm 162 c 28 (.int x9) := by
  obtain ⟨⟨p, l, e, R, s, m, args, below, meth, c0⟩, A, D, dA, mi⟩ := G
  obtain ⟨hx, hb, hml, hown, hts, hr, hlk, hK, hnm, hfr, hlc⟩ := hF
  exact List.forall_mem_cons.mpr ⟨⟨RX1, TX1, 34, "StoryColumnsModel", tyX1 28, rfl, in_X1, Nat.le_of_ble_eq_true rfl, Or.inl ⟨(hts _ q1066), Or.inl rfl⟩, fun _ h => h, tyX1_ok 28 (Nat.le_of_ble_eq_true rfl), rfl, rfl, ap_1 hts hK⟩, fun _ h9 => absurd h9 List.not_mem_nil⟩
theorem fl_X1_95 {G : Cx} {nL fr lc : Nat} {cc : ByteArray} {ret : Option FieldType} {nm : String} (hF : FX G cc nL RX1 ret nm fr lc) : ∀ c ∈ [1], GF G RX1 95 c 32 := by
  obtain ⟨⟨p, l, e, R, s, m, args, below, meth, c0⟩, A, D, dA, mi⟩ := G
  obtain ⟨hx, hb, hml, hown, hts, hr, hlk, hK, hnm, hfr, hlc⟩ := hF
  exact List.forall_mem_cons.mpr ⟨⟨RX1, TX1, 34, "StoryColumnsModel", rfl, in_X1, Nat.le_of_ble_eq_true rfl, Or.inl (hts _ q1070), fun _ h => h⟩, fun _ h9 => absurd h9 List.not_mem_nil⟩
theorem fl_X1_92 {G : Cx} {nL fr lc : Nat} {cc : ByteArray} {ret : Option FieldType} {nm : String} (hF : FX G cc nL RX1 ret nm fr lc) : ∀ c ∈ [1], GF G RX1 92 c 31 := by
  obtain ⟨⟨p, l, e, R, s, m, args, below, meth, c0⟩, A, D, dA, mi⟩ := G
  obtain ⟨hx, hb, hml, hown, hts, hr, hlk, hK, hnm, hfr, hlc⟩ := hF
  exact List.forall_mem_cons.mpr ⟨⟨RX1, TX1, 34, "StoryColumnsModel", rfl, in_X1, Nat.le_of_ble_eq_true rfl, Or.inl (hts _ q1069), fun _ h => h⟩, fun _ h9 => absurd h9 List.not_mem_nil⟩
theorem pl_X1_165 {G : Cx} {nL fr lc : Nat} {cc : ByteArray} {ret : Option FieldType} {nm : String} (hF : FX G cc nL RX1 ret nm fr lc) (x9 : Int32) : ∀ c ∈ [1], PF G RX1 nm 165 c 33 (.int x9) := by
  obtain ⟨⟨p, l, e, R, s, m, args, below, meth, c0⟩, A, D, dA, mi⟩ := G
  obtain ⟨hx, hb, hml, hown, hts, hr, hlk, hK, hnm, hfr, hlc⟩ := hF
  exact List.forall_mem_cons.mpr ⟨⟨RX1, TX1, 34, "StoryColumnsModel", tyX1 33, rfl, in_X1, Nat.le_of_ble_eq_true rfl, Or.inl ⟨(hts _ q1071), Or.inl rfl⟩, fun _ h => h, tyX1_ok 33 (Nat.le_of_ble_eq_true rfl), rfl, rfl, ap_1 hts hK⟩, fun _ h9 => absurd h9 List.not_mem_nil⟩
theorem fl_X1_80 {G : Cx} {nL fr lc : Nat} {cc : ByteArray} {ret : Option FieldType} {nm : String} (hF : FX G cc nL RX1 ret nm fr lc) : ∀ c ∈ [1], GF G RX1 80 c 26 := by
  obtain ⟨⟨p, l, e, R, s, m, args, below, meth, c0⟩, A, D, dA, mi⟩ := G
  obtain ⟨hx, hb, hml, hown, hts, hr, hlk, hK, hnm, hfr, hlc⟩ := hF
  exact List.forall_mem_cons.mpr ⟨⟨RX1, TX1, 34, "StoryColumnsModel", rfl, in_X1, Nat.le_of_ble_eq_true rfl, Or.inl (hts _ q1064), fun _ h => h⟩, fun _ h9 => absurd h9 List.not_mem_nil⟩
def fX1_lays_J82 (l0 : Option Nat) (M : Mp) (z : Nat) : Rs Unit := (gi M l0 [1] 28).bind fun v1 =>
(pu M l0 [1] 28 (.int (v1 + (1 : Int32)))).bind fun M2 =>
(gr M2 l0 [1] 29).bind fun v3 =>
(gi M2 l0 [1] 28).bind fun v4 =>
(gi M2 l0 [1] 33).bind fun v5 =>
(si M2 0 v3 v4 v5).bind fun M6 =>
some ((), M6, 0, 0)

theorem gX1_lays_J82 {G : Cx} {F : Option Value × Mp × Nat} (hF : FX G cX1_lays 4 RX1 (Option.none : Option Jvm.ClassFile.FieldType) "lays" 0 0) (l0 : Option Nat) (M : Mp) (z : Nat) : SK G F 4 eV 82 [some (va_rf l0), none, none, none] [] M z (fX1_lays_J82 l0 M z) := by
  unfold fX1_lays_J82
  refine s_aload_n (pc := 82) hF dX1_lays_82 rfl rfl ?_
  refine s_dup (pc := 83) hF dX1_lays_83 (ct _) ?_
  refine s_geti (pc := 84) hF (fl_X1_162 hF) dX1_lays_84 (fun v1 => ?_)
  refine s_iconst (pc := 87) hF dX1_lays_87 (1 : Int32) (by decide) ?_
  refine s_iadd (pc := 88) hF dX1_lays_88 ?_
  refine s_put (pc := 89) hF (pl_X1_162 hF _) dX1_lays_89 (fun M2 => ?_)
  refine s_aload_n (pc := 92) hF dX1_lays_92 rfl rfl ?_
  refine s_getr (pc := 93) hF (fl_X1_86 hF) dX1_lays_93 (fun v3 => ?_)
  refine s_aload_n (pc := 96) hF dX1_lays_96 rfl rfl ?_
  refine s_geti (pc := 97) hF (fl_X1_162 hF) dX1_lays_97 (fun v4 => ?_)
  refine s_aload_n (pc := 100) hF dX1_lays_100 rfl rfl ?_
  refine s_geti (pc := 101) hF (fl_X1_165 hF) dX1_lays_101 (fun v5 => ?_)
  refine s_iast (pc := 104) hF dX1_lays_104 (fun M6 => ?_)
  exact s_vret (pc := 105) hF dX1_lays_105

def fX1_lays_L25 : Nat → Option Nat → Int32 → Mp → Nat → Rs Unit
  | 0, _, _, _, _ => none
  | fu + 1, l0, l3, M, z => if l3 = (-9 : Int32) then
  (fX1_lays_J82 l0 M z)
else
  ((gr M l0 [1] 32).bind fun v1 =>
(ai M 0 v1 l3).bind fun v2 =>
if v2 = (-9 : Int32) then
  ((gr M l0 [1] 32).bind fun v3 =>
(gi M l0 [1] 28).bind fun v4 =>
(si M 0 v3 l3 v4).bind fun M5 =>
(gr M5 l0 [1] 31).bind fun v6 =>
(gi M5 l0 [1] 33).bind fun v7 =>
(si M5 0 v6 v7 l3).bind fun M8 =>
(gi M8 l0 [1] 33).bind fun v9 =>
(pu M8 l0 [1] 33 (.int (v9 + (1 : Int32)))).bind fun M10 =>
(gr M10 l0 [1] 26).bind fun v11 =>
(ai M10 0 v11 l3).bind fun v12 =>
fX1_lays_L25 fu l0 v12 M10 z)
else
  (fX1_lays_J82 l0 M z))

theorem gX1_lays_L25 {G : Cx} {F : Option Value × Mp × Nat} (hF : FX G cX1_lays 4 RX1 (Option.none : Option Jvm.ClassFile.FieldType) "lays" 0 0) : ∀ (fu : Nat) (l0 : Option Nat) (l3 : Int32) (M : Mp) (z : Nat), SK G F 4 eV 25 [some (va_rf l0), none, none, some (.int l3)] [] M z (fX1_lays_L25 fu l0 l3 M z) := by
  intro fu
  induction fu with
  | zero => intros; exact SK.fail
  | succ fu ih =>
    intro l0 l3 M z
    rw [fX1_lays_L25]
    refine s_iload_n (pc := 25) hF dX1_lays_25 rfl rfl ?_
    refine s_bipush (pc := 26) hF dX1_lays_26 (-9 : Int32) (by decide) ?_
    refine s_icmp_eq (pc := 28) hF 82 dX1_lays_28 rfl ?_ ?_
    · exact SK.sb (gX1_lays_J82 hF l0 M z) ⟨rfl, trivial⟩
    · refine s_aload_n (pc := 31) hF dX1_lays_31 rfl rfl ?_
      refine s_getr (pc := 32) hF (fl_X1_95 hF) dX1_lays_32 (fun v1 => ?_)
      refine s_iload_n (pc := 35) hF dX1_lays_35 rfl rfl ?_
      refine s_iald (pc := 36) hF dX1_lays_36 (fun v2 => ?_)
      refine s_bipush (pc := 37) hF dX1_lays_37 (-9 : Int32) (by decide) ?_
      refine s_icmp_ne (pc := 39) hF 82 dX1_lays_39 rfl ?_ ?_
      · exact SK.sb (gX1_lays_J82 hF l0 M z) ⟨rfl, trivial⟩
      · refine s_aload_n (pc := 42) hF dX1_lays_42 rfl rfl ?_
        refine s_getr (pc := 43) hF (fl_X1_95 hF) dX1_lays_43 (fun v3 => ?_)
        refine s_iload_n (pc := 46) hF dX1_lays_46 rfl rfl ?_
        refine s_aload_n (pc := 47) hF dX1_lays_47 rfl rfl ?_
        refine s_geti (pc := 48) hF (fl_X1_162 hF) dX1_lays_48 (fun v4 => ?_)
        refine s_iast (pc := 51) hF dX1_lays_51 (fun M5 => ?_)
        refine s_aload_n (pc := 52) hF dX1_lays_52 rfl rfl ?_
        refine s_getr (pc := 53) hF (fl_X1_92 hF) dX1_lays_53 (fun v6 => ?_)
        refine s_aload_n (pc := 56) hF dX1_lays_56 rfl rfl ?_
        refine s_geti (pc := 57) hF (fl_X1_165 hF) dX1_lays_57 (fun v7 => ?_)
        refine s_iload_n (pc := 60) hF dX1_lays_60 rfl rfl ?_
        refine s_iast (pc := 61) hF dX1_lays_61 (fun M8 => ?_)
        refine s_aload_n (pc := 62) hF dX1_lays_62 rfl rfl ?_
        refine s_dup (pc := 63) hF dX1_lays_63 (ct _) ?_
        refine s_geti (pc := 64) hF (fl_X1_165 hF) dX1_lays_64 (fun v9 => ?_)
        refine s_iconst (pc := 67) hF dX1_lays_67 (1 : Int32) (by decide) ?_
        refine s_iadd (pc := 68) hF dX1_lays_68 ?_
        refine s_put (pc := 69) hF (pl_X1_165 hF _) dX1_lays_69 (fun M10 => ?_)
        refine s_aload_n (pc := 72) hF dX1_lays_72 rfl rfl ?_
        refine s_getr (pc := 73) hF (fl_X1_80 hF) dX1_lays_73 (fun v11 => ?_)
        refine s_iload_n (pc := 76) hF dX1_lays_76 rfl rfl ?_
        refine s_iald (pc := 77) hF dX1_lays_77 (fun v12 => ?_)
        refine s_istore_n (L9 := [some (va_rf l0), none, none, some (.int v12)]) (pc := 78) hF dX1_lays_78 rfl (Nat.le_of_ble_eq_true rfl) rfl ?_
        refine s_goto (pc := 79) hF 25 dX1_lays_79 rfl ?_
        exact SK.sb (ih l0 v12 M10 z) ⟨rfl, ⟨rfl, trivial⟩⟩
def fX1_lays (a0 : Option Nat) (a1 : Int32) (a2 : Int32) (M : Mp) (z : Nat) : Rs Unit := (gr M a0 [1] 29).bind fun v1 =>
(gi M a0 [1] 28).bind fun v2 =>
(gi M a0 [1] 33).bind fun v3 =>
(si M 0 v1 v2 v3).bind fun M4 =>
(gr M4 a0 [1] 30).bind fun v5 =>
(gi M4 a0 [1] 28).bind fun v6 =>
if a2 = 0 ∨ a2 = 1 then
  ((si M4 1 v5 v6 a2).bind fun M7 =>
fX1_lays_L25 FU a0 a1 M7 z)
else none
theorem gX1_lays {G : Cx} {F : Option Value × Mp × Nat} (hF : FX G cX1_lays 4 RX1 (Option.none : Option Jvm.ClassFile.FieldType) "lays" 0 0) (a0 : Option Nat) (a1 : Int32) (a2 : Int32) (M : Mp) (z : Nat) : SK G F 4 eV 0 [some (va_rf a0), some (.int a1), some (.int a2), none] [] M z (fX1_lays a0 a1 a2 M z) := by
  unfold fX1_lays
  refine s_aload_n (pc := 0) hF dX1_lays_0 rfl rfl ?_
  refine s_getr (pc := 1) hF (fl_X1_86 hF) dX1_lays_1 (fun v1 => ?_)
  refine s_aload_n (pc := 4) hF dX1_lays_4 rfl rfl ?_
  refine s_geti (pc := 5) hF (fl_X1_162 hF) dX1_lays_5 (fun v2 => ?_)
  refine s_aload_n (pc := 8) hF dX1_lays_8 rfl rfl ?_
  refine s_geti (pc := 9) hF (fl_X1_165 hF) dX1_lays_9 (fun v3 => ?_)
  refine s_iast (pc := 12) hF dX1_lays_12 (fun M4 => ?_)
  refine s_aload_n (pc := 13) hF dX1_lays_13 rfl rfl ?_
  refine s_getr (pc := 14) hF (fl_X1_89 hF) dX1_lays_14 (fun v5 => ?_)
  refine s_aload_n (pc := 17) hF dX1_lays_17 rfl rfl ?_
  refine s_geti (pc := 18) hF (fl_X1_162 hF) dX1_lays_18 (fun v6 => ?_)
  refine s_iload_n (pc := 21) hF dX1_lays_21 rfl rfl ?_
  refine SK.chk fun h01 => ?_
  refine s_zast (pc := 22) hF h01 dX1_lays_22 (fun M7 => ?_)
  refine s_iload_n (pc := 23) hF dX1_lays_23 rfl rfl ?_
  refine s_istore_n (L9 := [some (va_rf a0), some (.int a1), some (.int a2), some (.int a1)]) (pc := 24) hF dX1_lays_24 rfl (Nat.le_of_ble_eq_true rfl) rfl ?_
  exact SK.sb (gX1_lays_L25 hF FU a0 a1 M7 z) ⟨rfl, ⟨rfl, trivial⟩⟩
theorem mX1_lays (a0 : Option Nat) (a1 : Int32) (a2 : Int32) : MT yX1_lays cX1_lays 4 (Option.none : Option Jvm.ClassFile.FieldType) 0 0 eV [va_rf a0, .int a1, .int a2] (fX1_lays a0 a1 a2) :=
  MT.of (L0 := [some (va_rf a0), some (.int a1), some (.int a2), none]) (by decide) ⟨ct _, ⟨rfl, ⟨rfl, trivial⟩⟩⟩ (Nat.le_of_ble_eq_true rfl) rfl (fun _ _ hF M z => gX1_lays hF a0 a1 a2 M z)

theorem cw_X1_lays : CWm yX1_lays cX1_lays 4 (Option.none : Option Jvm.ClassFile.FieldType) 2 := ⟨q1293, q63, by decide +kernel, by decide +kernel, by decide +kernel⟩
theorem fl_X1_83 {G : Cx} {nL fr lc : Nat} {cc : ByteArray} {ret : Option FieldType} {nm : String} (hF : FX G cc nL RX1 ret nm fr lc) : ∀ c ∈ [1], GF G RX1 83 c 27 := by
  obtain ⟨⟨p, l, e, R, s, m, args, below, meth, c0⟩, A, D, dA, mi⟩ := G
  obtain ⟨hx, hb, hml, hown, hts, hr, hlk, hK, hnm, hfr, hlc⟩ := hF
  exact List.forall_mem_cons.mpr ⟨⟨RX1, TX1, 34, "StoryColumnsModel", rfl, in_X1, Nat.le_of_ble_eq_true rfl, Or.inl (hts _ q1065), fun _ h => h⟩, fun _ h9 => absurd h9 List.not_mem_nil⟩
theorem fl_X1_77 {G : Cx} {nL fr lc : Nat} {cc : ByteArray} {ret : Option FieldType} {nm : String} (hF : FX G cc nL RX1 ret nm fr lc) : ∀ c ∈ [1], GF G RX1 77 c 25 := by
  obtain ⟨⟨p, l, e, R, s, m, args, below, meth, c0⟩, A, D, dA, mi⟩ := G
  obtain ⟨hx, hb, hml, hown, hts, hr, hlk, hK, hnm, hfr, hlc⟩ := hF
  exact List.forall_mem_cons.mpr ⟨⟨RX1, TX1, 34, "StoryColumnsModel", rfl, in_X1, Nat.le_of_ble_eq_true rfl, Or.inl (hts _ q1063), fun _ h => h⟩, fun _ h9 => absurd h9 List.not_mem_nil⟩
theorem fl_X1_73 {G : Cx} {nL fr lc : Nat} {cc : ByteArray} {ret : Option FieldType} {nm : String} (hF : FX G cc nL RX1 ret nm fr lc) : ∀ c ∈ [1], GF G RX1 73 c 24 := by
  obtain ⟨⟨p, l, e, R, s, m, args, below, meth, c0⟩, A, D, dA, mi⟩ := G
  obtain ⟨hx, hb, hml, hown, hts, hr, hlk, hK, hnm, hfr, hlc⟩ := hF
  exact List.forall_mem_cons.mpr ⟨⟨RX1, TX1, 34, "StoryColumnsModel", rfl, in_X1, Nat.le_of_ble_eq_true rfl, Or.inl (hts _ q1062), fun _ h => h⟩, fun _ h9 => absurd h9 List.not_mem_nil⟩
theorem cw_X1_aimBy : CWm yX1_aimBy cX1_aimBy 4 (Option.some Jvm.ClassFile.FieldType.int) 1 := ⟨q1289, q63, by decide +kernel, by decide +kernel, by decide +kernel⟩
theorem cw_X1_onwardOf : CWm yX1_onwardOf cX1_onwardOf 6 (Option.some Jvm.ClassFile.FieldType.int) 1 := ⟨q1285, q63, by decide +kernel, by decide +kernel, by decide +kernel⟩
def fX1_findArticles_J218 (r193 : Option Nat → Int32 → Mp → Nat → Rs Unit) (l0 : Option Nat) (l1 : Int32) (M : Mp) (z : Nat) : Rs Unit := r193 l0 (l1 + 1) M z

theorem gX1_findArticles_J218 {G : Cx} {F : Option Value × Mp × Nat}  {r193 : Option Nat → Int32 → Mp → Nat → Rs Unit}(hF : FX G cX1_findArticles 3 RX1 (Option.none : Option Jvm.ClassFile.FieldType) "findArticles" 5 120) (hr193 : ∀ l0 l1 M z, SK G F 3 eV 193 [some (va_rf l0), some (.int l1), none] [] M z (r193 l0 l1 M z)) (l0 : Option Nat) (l1 : Int32) (M : Mp) (z : Nat) : SK G F 3 eV 218 [some (va_rf l0), some (.int l1), none] [] M z (fX1_findArticles_J218 r193 l0 l1 M z) := by
  unfold fX1_findArticles_J218
  refine s_iinc (v := l1 + 1) (L9 := [some (va_rf l0), some (.int (l1 + 1)), none]) (pc := 218) hF dX1_findArticles_218 rfl rfl (Nat.le_of_ble_eq_true rfl) rfl ?_
  refine s_goto (pc := 221) hF 193 dX1_findArticles_221 rfl ?_
  exact SK.sb (hr193 l0 (l1 + 1) M z) ⟨rfl, ⟨rfl, trivial⟩⟩

def fX1_findArticles_L193 : Nat → Option Nat → Int32 → Mp → Nat → Rs Unit
  | 0, _, _, _, _ => none
  | fu + 1, l0, l1, M, z => (gi M l0 [1] 21).bind fun v1 =>
if l1 < v1 then
  ((gr M l0 [1] 32).bind fun v2 =>
(ai M 0 v2 l1).bind fun v3 =>
if v3 = (-9 : Int32) then
  (if ckc M l0 [1] = true then
  (cb (fX1_lays l0 l1 (1 : Int32) M z) z fun _ M5 z6 =>
fX1_findArticles_J218 (fX1_findArticles_L193 fu) l0 l1 M5 z6)
else none)
else
  (fX1_findArticles_J218 (fX1_findArticles_L193 fu) l0 l1 M z))
else
  (some ((), M, 0, 0))

theorem gX1_findArticles_L193 {G : Cx} {F : Option Value × Mp × Nat} (hF : FX G cX1_findArticles 3 RX1 (Option.none : Option Jvm.ClassFile.FieldType) "findArticles" 5 120) : ∀ (fu : Nat) (l0 : Option Nat) (l1 : Int32) (M : Mp) (z : Nat), SK G F 3 eV 193 [some (va_rf l0), some (.int l1), none] [] M z (fX1_findArticles_L193 fu l0 l1 M z) := by
  intro fu
  induction fu with
  | zero => intros; exact SK.fail
  | succ fu ih =>
    intro l0 l1 M z
    rw [fX1_findArticles_L193]
    refine s_iload_n (pc := 193) hF dX1_findArticles_193 rfl rfl ?_
    refine s_aload_n (pc := 194) hF dX1_findArticles_194 rfl rfl ?_
    refine s_geti (pc := 195) hF (fl_X1_153 hF) dX1_findArticles_195 (fun v1 => ?_)
    refine s_icmp_ge (pc := 198) hF 224 dX1_findArticles_198 rfl ?_ ?_
    · exact s_vret (pc := 224) hF dX1_findArticles_224
    · refine s_aload_n (pc := 201) hF dX1_findArticles_201 rfl rfl ?_
      refine s_getr (pc := 202) hF (fl_X1_95 hF) dX1_findArticles_202 (fun v2 => ?_)
      refine s_iload_n (pc := 205) hF dX1_findArticles_205 rfl rfl ?_
      refine s_iald (pc := 206) hF dX1_findArticles_206 (fun v3 => ?_)
      refine s_bipush (pc := 207) hF dX1_findArticles_207 (-9 : Int32) (by decide) ?_
      refine s_icmp_ne (pc := 209) hF 218 dX1_findArticles_209 rfl ?_ ?_
      · exact SK.sb (gX1_findArticles_J218 hF ih l0 l1 M z) ⟨rfl, ⟨rfl, trivial⟩⟩
      · refine s_aload_n (pc := 212) hF dX1_findArticles_212 rfl rfl ?_
        refine s_iload_n (pc := 213) hF dX1_findArticles_213 rfl rfl ?_
        refine s_iconst (pc := 214) hF dX1_findArticles_214 (1 : Int32) (by decide) ?_
        refine s_callV (pc := 215) (As := [.int l1, .int (1 : Int32)]) (st := []) (stf := fun r9 => []) hF (mX1_lays l0 l1 (1 : Int32)) cw_X1_lays q1290 q1292 (List.forall_mem_cons.mpr ⟨⟨(RX1, TX1, 34), rfl, qs45⟩, fun _ h9 => absurd h9 List.not_mem_nil⟩) rfl ⟨Nat.le_of_ble_eq_true rfl, Nat.le_of_ble_eq_true rfl⟩ ⟨trivial, Nat.le_of_ble_eq_true rfl⟩ dX1_findArticles_215 rfl (fun _ => rfl) (fun v4 M5 z6 => ?_)
        exact SK.sb (gX1_findArticles_J218 hF ih l0 l1 M5 z6) ⟨rfl, ⟨rfl, trivial⟩⟩

def fX1_findArticles_J185 (r160 : Option Nat → Int32 → Mp → Nat → Rs Unit) (l0 : Option Nat) (l1 : Int32) (M : Mp) (z : Nat) : Rs Unit := r160 l0 (l1 + 1) M z

theorem gX1_findArticles_J185 {G : Cx} {F : Option Value × Mp × Nat}  {r160 : Option Nat → Int32 → Mp → Nat → Rs Unit}(hF : FX G cX1_findArticles 3 RX1 (Option.none : Option Jvm.ClassFile.FieldType) "findArticles" 5 120) (hr160 : ∀ l0 l1 M z, SK G F 3 eV 160 [some (va_rf l0), some (.int l1), none] [] M z (r160 l0 l1 M z)) (l0 : Option Nat) (l1 : Int32) (M : Mp) (z : Nat) : SK G F 3 eV 185 [some (va_rf l0), some (.int l1), none] [] M z (fX1_findArticles_J185 r160 l0 l1 M z) := by
  unfold fX1_findArticles_J185
  refine s_iinc (v := l1 + 1) (L9 := [some (va_rf l0), some (.int (l1 + 1)), none]) (pc := 185) hF dX1_findArticles_185 rfl rfl (Nat.le_of_ble_eq_true rfl) rfl ?_
  refine s_goto (pc := 188) hF 160 dX1_findArticles_188 rfl ?_
  exact SK.sb (hr160 l0 (l1 + 1) M z) ⟨rfl, ⟨rfl, trivial⟩⟩

def fX1_findArticles_L160 : Nat → Option Nat → Int32 → Mp → Nat → Rs Unit
  | 0, _, _, _, _ => none
  | fu + 1, l0, l1, M, z => (gi M l0 [1] 21).bind fun v1 =>
if l1 < v1 then
  ((gr M l0 [1] 27).bind fun v2 =>
(ai M 0 v2 l1).bind fun v3 =>
if v3 = (-9 : Int32) then
  (if ckc M l0 [1] = true then
  (cb (fX1_lays l0 l1 (0 : Int32) M z) z fun _ M5 z6 =>
fX1_findArticles_J185 (fX1_findArticles_L160 fu) l0 l1 M5 z6)
else none)
else
  (fX1_findArticles_J185 (fX1_findArticles_L160 fu) l0 l1 M z))
else
  (fX1_findArticles_L193 FU l0 (0 : Int32) M z)

theorem gX1_findArticles_L160 {G : Cx} {F : Option Value × Mp × Nat} (hF : FX G cX1_findArticles 3 RX1 (Option.none : Option Jvm.ClassFile.FieldType) "findArticles" 5 120) : ∀ (fu : Nat) (l0 : Option Nat) (l1 : Int32) (M : Mp) (z : Nat), SK G F 3 eV 160 [some (va_rf l0), some (.int l1), none] [] M z (fX1_findArticles_L160 fu l0 l1 M z) := by
  intro fu
  induction fu with
  | zero => intros; exact SK.fail
  | succ fu ih =>
    intro l0 l1 M z
    rw [fX1_findArticles_L160]
    refine s_iload_n (pc := 160) hF dX1_findArticles_160 rfl rfl ?_
    refine s_aload_n (pc := 161) hF dX1_findArticles_161 rfl rfl ?_
    refine s_geti (pc := 162) hF (fl_X1_153 hF) dX1_findArticles_162 (fun v1 => ?_)
    refine s_icmp_ge (pc := 165) hF 191 dX1_findArticles_165 rfl ?_ ?_
    · refine s_iconst (pc := 191) hF dX1_findArticles_191 (0 : Int32) (by decide) ?_
      refine s_istore_n (L9 := [some (va_rf l0), some (.int (0 : Int32)), none]) (pc := 192) hF dX1_findArticles_192 rfl (Nat.le_of_ble_eq_true rfl) rfl ?_
      exact SK.sb (gX1_findArticles_L193 hF FU l0 (0 : Int32) M z) ⟨rfl, ⟨rfl, trivial⟩⟩
    · refine s_aload_n (pc := 168) hF dX1_findArticles_168 rfl rfl ?_
      refine s_getr (pc := 169) hF (fl_X1_83 hF) dX1_findArticles_169 (fun v2 => ?_)
      refine s_iload_n (pc := 172) hF dX1_findArticles_172 rfl rfl ?_
      refine s_iald (pc := 173) hF dX1_findArticles_173 (fun v3 => ?_)
      refine s_bipush (pc := 174) hF dX1_findArticles_174 (-9 : Int32) (by decide) ?_
      refine s_icmp_ne (pc := 176) hF 185 dX1_findArticles_176 rfl ?_ ?_
      · exact SK.sb (gX1_findArticles_J185 hF ih l0 l1 M z) ⟨rfl, ⟨rfl, trivial⟩⟩
      · refine s_aload_n (pc := 179) hF dX1_findArticles_179 rfl rfl ?_
        refine s_iload_n (pc := 180) hF dX1_findArticles_180 rfl rfl ?_
        refine s_iconst (pc := 181) hF dX1_findArticles_181 (0 : Int32) (by decide) ?_
        refine s_callV (pc := 182) (As := [.int l1, .int (0 : Int32)]) (st := []) (stf := fun r9 => []) hF (mX1_lays l0 l1 (0 : Int32)) cw_X1_lays q1290 q1292 (List.forall_mem_cons.mpr ⟨⟨(RX1, TX1, 34), rfl, qs45⟩, fun _ h9 => absurd h9 List.not_mem_nil⟩) rfl ⟨Nat.le_of_ble_eq_true rfl, Nat.le_of_ble_eq_true rfl⟩ ⟨trivial, Nat.le_of_ble_eq_true rfl⟩ dX1_findArticles_182 rfl (fun _ => rfl) (fun v4 M5 z6 => ?_)
        exact SK.sb (gX1_findArticles_J185 hF ih l0 l1 M5 z6) ⟨rfl, ⟨rfl, trivial⟩⟩

def fX1_findArticles_J142 (r91 : Option Nat → Int32 → Mp → Nat → Rs Unit) (l0 : Option Nat) (l1 : Int32) (M : Mp) (z : Nat) : Rs Unit := r91 l0 (l1 + 1) M z

theorem gX1_findArticles_J142 {G : Cx} {F : Option Value × Mp × Nat}  {r91 : Option Nat → Int32 → Mp → Nat → Rs Unit}(hF : FX G cX1_findArticles 3 RX1 (Option.none : Option Jvm.ClassFile.FieldType) "findArticles" 5 120) (hr91 : ∀ l0 l1 M z, SK G F 3 eV 91 [some (va_rf l0), some (.int l1), none] [] M z (r91 l0 l1 M z)) (l0 : Option Nat) (l1 : Int32) (M : Mp) (z : Nat) : SK G F 3 eV 142 [some (va_rf l0), some (.int l1), none] [] M z (fX1_findArticles_J142 r91 l0 l1 M z) := by
  unfold fX1_findArticles_J142
  refine s_iinc (v := l1 + 1) (L9 := [some (va_rf l0), some (.int (l1 + 1)), none]) (pc := 142) hF dX1_findArticles_142 rfl rfl (Nat.le_of_ble_eq_true rfl) rfl ?_
  refine s_goto (pc := 145) hF 91 dX1_findArticles_145 rfl ?_
  exact SK.sb (hr91 l0 (l1 + 1) M z) ⟨rfl, ⟨rfl, trivial⟩⟩

def fX1_findArticles_L91 : Nat → Option Nat → Int32 → Mp → Nat → Rs Unit
  | 0, _, _, _, _ => none
  | fu + 1, l0, l1, M, z => (gi M l0 [1] 21).bind fun v1 =>
if l1 < v1 then
  ((gr M l0 [1] 25).bind fun v4 =>
(ai M 0 v4 l1).bind fun v5 =>
if v5 = (-9 : Int32) then
  (fX1_findArticles_J142 (fX1_findArticles_L91 fu) l0 l1 M z)
else
  (if v5 = l1 then
  (fX1_findArticles_J142 (fX1_findArticles_L91 fu) l0 l1 M z)
else
  ((gr M l0 [1] 27).bind fun v6 =>
(ai M 0 v6 v5).bind fun v7 =>
if v7 = (-9 : Int32) then
  ((gr M l0 [1] 27).bind fun v8 =>
(si M 0 v8 v5 l1).bind fun M9 =>
(gr M9 l0 [1] 26).bind fun v10 =>
(si M9 0 v10 l1 v5).bind fun M11 =>
fX1_findArticles_J142 (fX1_findArticles_L91 fu) l0 l1 M11 z)
else
  (fX1_findArticles_J142 (fX1_findArticles_L91 fu) l0 l1 M z))))
else
  ((pu M l0 [1] 28 (.int (0 : Int32))).bind fun M2 =>
(pu M2 l0 [1] 33 (.int (0 : Int32))).bind fun M3 =>
fX1_findArticles_L160 FU l0 (0 : Int32) M3 z)

theorem gX1_findArticles_L91 {G : Cx} {F : Option Value × Mp × Nat} (hF : FX G cX1_findArticles 3 RX1 (Option.none : Option Jvm.ClassFile.FieldType) "findArticles" 5 120) : ∀ (fu : Nat) (l0 : Option Nat) (l1 : Int32) (M : Mp) (z : Nat), SK G F 3 eV 91 [some (va_rf l0), some (.int l1), none] [] M z (fX1_findArticles_L91 fu l0 l1 M z) := by
  intro fu
  induction fu with
  | zero => intros; exact SK.fail
  | succ fu ih =>
    intro l0 l1 M z
    rw [fX1_findArticles_L91]
    refine s_iload_n (pc := 91) hF dX1_findArticles_91 rfl rfl ?_
    refine s_aload_n (pc := 92) hF dX1_findArticles_92 rfl rfl ?_
    refine s_geti (pc := 93) hF (fl_X1_153 hF) dX1_findArticles_93 (fun v1 => ?_)
    refine s_icmp_ge (pc := 96) hF 148 dX1_findArticles_96 rfl ?_ ?_
    · refine s_aload_n (pc := 148) hF dX1_findArticles_148 rfl rfl ?_
      refine s_iconst (pc := 149) hF dX1_findArticles_149 (0 : Int32) (by decide) ?_
      refine s_put (pc := 150) hF (pl_X1_162 hF _) dX1_findArticles_150 (fun M2 => ?_)
      refine s_aload_n (pc := 153) hF dX1_findArticles_153 rfl rfl ?_
      refine s_iconst (pc := 154) hF dX1_findArticles_154 (0 : Int32) (by decide) ?_
      refine s_put (pc := 155) hF (pl_X1_165 hF _) dX1_findArticles_155 (fun M3 => ?_)
      refine s_iconst (pc := 158) hF dX1_findArticles_158 (0 : Int32) (by decide) ?_
      refine s_istore_n (L9 := [some (va_rf l0), some (.int (0 : Int32)), none]) (pc := 159) hF dX1_findArticles_159 rfl (Nat.le_of_ble_eq_true rfl) rfl ?_
      exact SK.sb (gX1_findArticles_L160 hF FU l0 (0 : Int32) M3 z) ⟨rfl, ⟨rfl, trivial⟩⟩
    · refine s_aload_n (pc := 99) hF dX1_findArticles_99 rfl rfl ?_
      refine s_getr (pc := 100) hF (fl_X1_77 hF) dX1_findArticles_100 (fun v4 => ?_)
      refine s_iload_n (pc := 103) hF dX1_findArticles_103 rfl rfl ?_
      refine s_iald (pc := 104) hF dX1_findArticles_104 (fun v5 => ?_)
      refine s_istore_n (L9 := [some (va_rf l0), some (.int l1), some (.int v5)]) (pc := 105) hF dX1_findArticles_105 rfl (Nat.le_of_ble_eq_true rfl) rfl ?_
      refine s_iload_n (pc := 106) hF dX1_findArticles_106 rfl rfl ?_
      refine s_bipush (pc := 107) hF dX1_findArticles_107 (-9 : Int32) (by decide) ?_
      refine s_icmp_eq (pc := 109) hF 142 dX1_findArticles_109 rfl ?_ ?_
      · exact SK.sb (gX1_findArticles_J142 hF ih l0 l1 M z) ⟨rfl, ⟨rfl, trivial⟩⟩
      · refine s_iload_n (pc := 112) hF dX1_findArticles_112 rfl rfl ?_
        refine s_iload_n (pc := 113) hF dX1_findArticles_113 rfl rfl ?_
        refine s_icmp_eq (pc := 114) hF 142 dX1_findArticles_114 rfl ?_ ?_
        · exact SK.sb (gX1_findArticles_J142 hF ih l0 l1 M z) ⟨rfl, ⟨rfl, trivial⟩⟩
        · refine s_aload_n (pc := 117) hF dX1_findArticles_117 rfl rfl ?_
          refine s_getr (pc := 118) hF (fl_X1_83 hF) dX1_findArticles_118 (fun v6 => ?_)
          refine s_iload_n (pc := 121) hF dX1_findArticles_121 rfl rfl ?_
          refine s_iald (pc := 122) hF dX1_findArticles_122 (fun v7 => ?_)
          refine s_bipush (pc := 123) hF dX1_findArticles_123 (-9 : Int32) (by decide) ?_
          refine s_icmp_ne (pc := 125) hF 142 dX1_findArticles_125 rfl ?_ ?_
          · exact SK.sb (gX1_findArticles_J142 hF ih l0 l1 M z) ⟨rfl, ⟨rfl, trivial⟩⟩
          · refine s_aload_n (pc := 128) hF dX1_findArticles_128 rfl rfl ?_
            refine s_getr (pc := 129) hF (fl_X1_83 hF) dX1_findArticles_129 (fun v8 => ?_)
            refine s_iload_n (pc := 132) hF dX1_findArticles_132 rfl rfl ?_
            refine s_iload_n (pc := 133) hF dX1_findArticles_133 rfl rfl ?_
            refine s_iast (pc := 134) hF dX1_findArticles_134 (fun M9 => ?_)
            refine s_aload_n (pc := 135) hF dX1_findArticles_135 rfl rfl ?_
            refine s_getr (pc := 136) hF (fl_X1_80 hF) dX1_findArticles_136 (fun v10 => ?_)
            refine s_iload_n (pc := 139) hF dX1_findArticles_139 rfl rfl ?_
            refine s_iload_n (pc := 140) hF dX1_findArticles_140 rfl rfl ?_
            refine s_iast (pc := 141) hF dX1_findArticles_141 (fun M11 => ?_)
            exact SK.sb (gX1_findArticles_J142 hF ih l0 l1 M11 z) ⟨rfl, ⟨rfl, trivial⟩⟩

def fX1_findArticles_J58 (r6 : Option Nat → Int32 → Mp → Nat → Rs Unit) (l0 : Option Nat) (l1 : Int32) (s0 : Option Nat) (s1 : Int32) (s2 : Int32) (M : Mp) (z : Nat) : Rs Unit := (si M 0 s0 s1 s2).bind fun M1 =>
(gr M1 l0 [1] 26).bind fun v2 =>
(si M1 0 v2 l1 (-9 : Int32)).bind fun M3 =>
(gr M3 l0 [1] 27).bind fun v4 =>
(si M3 0 v4 l1 (-9 : Int32)).bind fun M5 =>
(gr M5 l0 [1] 32).bind fun v6 =>
(si M5 0 v6 l1 (-9 : Int32)).bind fun M7 =>
r6 l0 (l1 + 1) M7 z

theorem gX1_findArticles_J58 {G : Cx} {F : Option Value × Mp × Nat}  {r6 : Option Nat → Int32 → Mp → Nat → Rs Unit}(hF : FX G cX1_findArticles 3 RX1 (Option.none : Option Jvm.ClassFile.FieldType) "findArticles" 5 120) (hr6 : ∀ l0 l1 M z, SK G F 3 eV 6 [some (va_rf l0), some (.int l1), none] [] M z (r6 l0 l1 M z)) (l0 : Option Nat) (l1 : Int32) (s0 : Option Nat) (s1 : Int32) (s2 : Int32) (M : Mp) (z : Nat) : SK G F 3 eV 58 [some (va_rf l0), some (.int l1), none] [.int s2, .int s1, va_rf s0] M z (fX1_findArticles_J58 r6 l0 l1 s0 s1 s2 M z) := by
  unfold fX1_findArticles_J58
  refine s_iast (pc := 58) hF dX1_findArticles_58 (fun M1 => ?_)
  refine s_aload_n (pc := 59) hF dX1_findArticles_59 rfl rfl ?_
  refine s_getr (pc := 60) hF (fl_X1_80 hF) dX1_findArticles_60 (fun v2 => ?_)
  refine s_iload_n (pc := 63) hF dX1_findArticles_63 rfl rfl ?_
  refine s_bipush (pc := 64) hF dX1_findArticles_64 (-9 : Int32) (by decide) ?_
  refine s_iast (pc := 66) hF dX1_findArticles_66 (fun M3 => ?_)
  refine s_aload_n (pc := 67) hF dX1_findArticles_67 rfl rfl ?_
  refine s_getr (pc := 68) hF (fl_X1_83 hF) dX1_findArticles_68 (fun v4 => ?_)
  refine s_iload_n (pc := 71) hF dX1_findArticles_71 rfl rfl ?_
  refine s_bipush (pc := 72) hF dX1_findArticles_72 (-9 : Int32) (by decide) ?_
  refine s_iast (pc := 74) hF dX1_findArticles_74 (fun M5 => ?_)
  refine s_aload_n (pc := 75) hF dX1_findArticles_75 rfl rfl ?_
  refine s_getr (pc := 76) hF (fl_X1_95 hF) dX1_findArticles_76 (fun v6 => ?_)
  refine s_iload_n (pc := 79) hF dX1_findArticles_79 rfl rfl ?_
  refine s_bipush (pc := 80) hF dX1_findArticles_80 (-9 : Int32) (by decide) ?_
  refine s_iast (pc := 82) hF dX1_findArticles_82 (fun M7 => ?_)
  refine s_iinc (v := l1 + 1) (L9 := [some (va_rf l0), some (.int (l1 + 1)), none]) (pc := 83) hF dX1_findArticles_83 rfl rfl (Nat.le_of_ble_eq_true rfl) rfl ?_
  refine s_goto (pc := 86) hF 6 dX1_findArticles_86 rfl ?_
  exact SK.sb (hr6 l0 (l1 + 1) M7 z) ⟨rfl, ⟨rfl, trivial⟩⟩

def fX1_findArticles_J36 (r6 : Option Nat → Int32 → Mp → Nat → Rs Unit) (l0 : Option Nat) (l1 : Int32) (l2 : Int32) (s0 : Option Nat) (s1 : Int32) (s2 : Int32) (M : Mp) (z : Nat) : Rs Unit := if s2 = 0 ∨ s2 = 1 then
  ((si M 1 s0 s1 s2).bind fun M1 =>
(gr M1 l0 [1] 25).bind fun v2 =>
if l2 = (-9 : Int32) then
  (fX1_findArticles_J58 r6 l0 l1 v2 l1 (-9 : Int32) M1 z)
else
  (if ckc M1 l0 [1] = true then
  (cb (fX1_aimBy l0 l2 M1 z) z fun v3 M4 z5 =>
fX1_findArticles_J58 r6 l0 l1 v2 l1 v3 M4 z5)
else none))
else none

theorem gX1_findArticles_J36 {G : Cx} {F : Option Value × Mp × Nat}  {r6 : Option Nat → Int32 → Mp → Nat → Rs Unit}(hF : FX G cX1_findArticles 3 RX1 (Option.none : Option Jvm.ClassFile.FieldType) "findArticles" 5 120) (hr6 : ∀ l0 l1 M z, SK G F 3 eV 6 [some (va_rf l0), some (.int l1), none] [] M z (r6 l0 l1 M z)) (l0 : Option Nat) (l1 : Int32) (l2 : Int32) (s0 : Option Nat) (s1 : Int32) (s2 : Int32) (M : Mp) (z : Nat) : SK G F 3 eV 36 [some (va_rf l0), some (.int l1), some (.int l2)] [.int s2, .int s1, va_rf s0] M z (fX1_findArticles_J36 r6 l0 l1 l2 s0 s1 s2 M z) := by
  unfold fX1_findArticles_J36
  refine SK.chk fun h01 => ?_
  refine s_zast (pc := 36) hF h01 dX1_findArticles_36 (fun M1 => ?_)
  refine s_aload_n (pc := 37) hF dX1_findArticles_37 rfl rfl ?_
  refine s_getr (pc := 38) hF (fl_X1_77 hF) dX1_findArticles_38 (fun v2 => ?_)
  refine s_iload_n (pc := 41) hF dX1_findArticles_41 rfl rfl ?_
  refine s_iload_n (pc := 42) hF dX1_findArticles_42 rfl rfl ?_
  refine s_bipush (pc := 43) hF dX1_findArticles_43 (-9 : Int32) (by decide) ?_
  refine s_icmp_ne (pc := 45) hF 53 dX1_findArticles_45 rfl ?_ ?_
  · refine s_aload_n (pc := 53) hF dX1_findArticles_53 rfl rfl ?_
    refine s_iload_n (pc := 54) hF dX1_findArticles_54 rfl rfl ?_
    refine s_callV (pc := 55) (As := [.int l2]) (st := [.int l1, va_rf v2]) (stf := fun r9 => .int r9 :: [.int l1, va_rf v2]) hF (mX1_aimBy l0 l2) cw_X1_aimBy q1286 q1288 (List.forall_mem_cons.mpr ⟨⟨(RX1, TX1, 34), rfl, qs44⟩, fun _ h9 => absurd h9 List.not_mem_nil⟩) rfl ⟨Nat.le_of_ble_eq_true rfl, Nat.le_of_ble_eq_true rfl⟩ ⟨⟨rfl, ⟨ct _, trivial⟩⟩, Nat.le_of_ble_eq_true rfl⟩ dX1_findArticles_55 rfl (fun _ => rfl) (fun v3 M4 z5 => ?_)
    exact SK.sb (gX1_findArticles_J58 hF hr6 l0 l1 v2 l1 v3 M4 z5) ⟨rfl, ⟨rfl, trivial⟩⟩
  · refine s_bipush (pc := 48) hF dX1_findArticles_48 (-9 : Int32) (by decide) ?_
    refine s_goto (pc := 50) hF 58 dX1_findArticles_50 rfl ?_
    exact SK.sb (gX1_findArticles_J58 hF hr6 l0 l1 v2 l1 (-9 : Int32) M1 z) ⟨rfl, ⟨rfl, trivial⟩⟩

def fX1_findArticles_L6 : Nat → Option Nat → Int32 → Mp → Nat → Rs Unit
  | 0, _, _, _, _ => none
  | fu + 1, l0, l1, M, z => (gi M l0 [1] 21).bind fun v1 =>
if l1 < v1 then
  (if ckc M l0 [1] = true then
  (cb (fX1_onwardOf l0 l1 M z) z fun v2 M3 z4 =>
(gr M3 l0 [1] 24).bind fun v5 =>
if v2 = (-9 : Int32) then
  (fX1_findArticles_J36 (fX1_findArticles_L6 fu) l0 l1 v2 v5 l1 (0 : Int32) M3 z4)
else
  (fX1_findArticles_J36 (fX1_findArticles_L6 fu) l0 l1 v2 v5 l1 (1 : Int32) M3 z4))
else none)
else
  (fX1_findArticles_L91 FU l0 (0 : Int32) M z)

theorem gX1_findArticles_L6 {G : Cx} {F : Option Value × Mp × Nat} (hF : FX G cX1_findArticles 3 RX1 (Option.none : Option Jvm.ClassFile.FieldType) "findArticles" 5 120) : ∀ (fu : Nat) (l0 : Option Nat) (l1 : Int32) (M : Mp) (z : Nat), SK G F 3 eV 6 [some (va_rf l0), some (.int l1), none] [] M z (fX1_findArticles_L6 fu l0 l1 M z) := by
  intro fu
  induction fu with
  | zero => intros; exact SK.fail
  | succ fu ih =>
    intro l0 l1 M z
    rw [fX1_findArticles_L6]
    refine s_iload_n (pc := 6) hF dX1_findArticles_6 rfl rfl ?_
    refine s_aload_n (pc := 7) hF dX1_findArticles_7 rfl rfl ?_
    refine s_geti (pc := 8) hF (fl_X1_153 hF) dX1_findArticles_8 (fun v1 => ?_)
    refine s_icmp_ge (pc := 11) hF 89 dX1_findArticles_11 rfl ?_ ?_
    · refine s_iconst (pc := 89) hF dX1_findArticles_89 (0 : Int32) (by decide) ?_
      refine s_istore_n (L9 := [some (va_rf l0), some (.int (0 : Int32)), none]) (pc := 90) hF dX1_findArticles_90 rfl (Nat.le_of_ble_eq_true rfl) rfl ?_
      exact SK.sb (gX1_findArticles_L91 hF FU l0 (0 : Int32) M z) ⟨rfl, ⟨rfl, trivial⟩⟩
    · refine s_aload_n (pc := 14) hF dX1_findArticles_14 rfl rfl ?_
      refine s_iload_n (pc := 15) hF dX1_findArticles_15 rfl rfl ?_
      refine s_callV (pc := 16) (As := [.int l1]) (st := []) (stf := fun r9 => .int r9 :: []) hF (mX1_onwardOf l0 l1) cw_X1_onwardOf q1282 q1284 (List.forall_mem_cons.mpr ⟨⟨(RX1, TX1, 34), rfl, qs43⟩, fun _ h9 => absurd h9 List.not_mem_nil⟩) rfl ⟨Nat.le_of_ble_eq_true rfl, Nat.le_of_ble_eq_true rfl⟩ ⟨trivial, Nat.le_of_ble_eq_true rfl⟩ dX1_findArticles_16 rfl (fun _ => rfl) (fun v2 M3 z4 => ?_)
      refine s_istore_n (L9 := [some (va_rf l0), some (.int l1), some (.int v2)]) (pc := 19) hF dX1_findArticles_19 rfl (Nat.le_of_ble_eq_true rfl) rfl ?_
      refine s_aload_n (pc := 20) hF dX1_findArticles_20 rfl rfl ?_
      refine s_getr (pc := 21) hF (fl_X1_73 hF) dX1_findArticles_21 (fun v5 => ?_)
      refine s_iload_n (pc := 24) hF dX1_findArticles_24 rfl rfl ?_
      refine s_iload_n (pc := 25) hF dX1_findArticles_25 rfl rfl ?_
      refine s_bipush (pc := 26) hF dX1_findArticles_26 (-9 : Int32) (by decide) ?_
      refine s_icmp_eq (pc := 28) hF 35 dX1_findArticles_28 rfl ?_ ?_
      · refine s_iconst (pc := 35) hF dX1_findArticles_35 (0 : Int32) (by decide) ?_
        exact SK.sb (gX1_findArticles_J36 hF ih l0 l1 v2 v5 l1 (0 : Int32) M3 z4) ⟨rfl, ⟨rfl, ⟨rfl, trivial⟩⟩⟩
      · refine s_iconst (pc := 31) hF dX1_findArticles_31 (1 : Int32) (by decide) ?_
        refine s_goto (pc := 32) hF 36 dX1_findArticles_32 rfl ?_
        exact SK.sb (gX1_findArticles_J36 hF ih l0 l1 v2 v5 l1 (1 : Int32) M3 z4) ⟨rfl, ⟨rfl, ⟨rfl, trivial⟩⟩⟩
def fX1_findArticles (a0 : Option Nat) (M : Mp) (z : Nat) : Rs Unit := if ckc M a0 [1] = true then
  (cb (fX1_findStories a0 M z) z fun _ M2 z3 =>
fX1_findArticles_L6 FU a0 (0 : Int32) M2 z3)
else none
theorem gX1_findArticles {G : Cx} {F : Option Value × Mp × Nat} (hF : FX G cX1_findArticles 3 RX1 (Option.none : Option Jvm.ClassFile.FieldType) "findArticles" 5 120) (a0 : Option Nat) (M : Mp) (z : Nat) : SK G F 3 eV 0 [some (va_rf a0), none, none] [] M z (fX1_findArticles a0 M z) := by
  unfold fX1_findArticles
  refine s_aload_n (pc := 0) hF dX1_findArticles_0 rfl rfl ?_
  refine s_callV (pc := 1) (As := []) (st := []) (stf := fun r9 => []) hF (mX1_findStories a0) cw_X1_findStories q1226 q1228 (List.forall_mem_cons.mpr ⟨⟨(RX1, TX1, 34), rfl, qs34⟩, fun _ h9 => absurd h9 List.not_mem_nil⟩) rfl ⟨Nat.le_of_ble_eq_true rfl, Nat.le_of_ble_eq_true rfl⟩ ⟨trivial, Nat.le_of_ble_eq_true rfl⟩ dX1_findArticles_1 rfl (fun _ => rfl) (fun v1 M2 z3 => ?_)
  refine s_iconst (pc := 4) hF dX1_findArticles_4 (0 : Int32) (by decide) ?_
  refine s_istore_n (L9 := [some (va_rf a0), some (.int (0 : Int32)), none]) (pc := 5) hF dX1_findArticles_5 rfl (Nat.le_of_ble_eq_true rfl) rfl ?_
  exact SK.sb (gX1_findArticles_L6 hF FU a0 (0 : Int32) M2 z3) ⟨rfl, ⟨rfl, trivial⟩⟩
theorem mX1_findArticles (a0 : Option Nat) : MT yX1_findArticles cX1_findArticles 3 (Option.none : Option Jvm.ClassFile.FieldType) 5 120 eV [va_rf a0] (fX1_findArticles a0) :=
  MT.of (L0 := [some (va_rf a0), none, none]) (by decide) ⟨ct _, trivial⟩ (Nat.le_of_ble_eq_true rfl) rfl (fun _ _ hF M z => gX1_findArticles hF a0 M z)

theorem cw_X1_findArticles : CWm yX1_findArticles cX1_findArticles 3 (Option.none : Option Jvm.ClassFile.FieldType) 0 := ⟨q1281, q63, by decide +kernel, by decide +kernel, by decide +kernel⟩
def fX1_isStory (a0 : Option Nat) (a1 : Int32) (M : Mp) (z : Nat) : Rs Int32 := if ckc M a0 [1] = true then
  (cb (fX1_findArticles a0 M z) z fun _ M2 z3 =>
(gi M2 a0 [1] 21).bind fun v4 =>
cb (fX1_within a1 (0 : Int32) (v4 - (1 : Int32)) M2 z3) z3 fun v5 M6 z7 =>
if v5 = 0 ∨ v5 = 1 then some (v5, M6, 0, 0) else none)
else none
theorem gX1_isStory {G : Cx} {F : Option Value × Mp × Nat} (hF : FX G cX1_isStory 2 RX1 (Option.some Jvm.ClassFile.FieldType.boolean) "isStory" 6 142) (a0 : Option Nat) (a1 : Int32) (M : Mp) (z : Nat) : SK G F 2 eI 0 [some (va_rf a0), some (.int a1)] [] M z (fX1_isStory a0 a1 M z) := by
  unfold fX1_isStory
  refine s_aload_n (pc := 0) hF dX1_isStory_0 rfl rfl ?_
  refine s_callV (pc := 1) (As := []) (st := []) (stf := fun r9 => []) hF (mX1_findArticles a0) cw_X1_findArticles q1278 q1280 (List.forall_mem_cons.mpr ⟨⟨(RX1, TX1, 34), rfl, qs42⟩, fun _ h9 => absurd h9 List.not_mem_nil⟩) rfl ⟨Nat.le_of_ble_eq_true rfl, Nat.le_of_ble_eq_true rfl⟩ ⟨trivial, Nat.le_of_ble_eq_true rfl⟩ dX1_isStory_1 rfl (fun _ => rfl) (fun v1 M2 z3 => ?_)
  refine s_iload_n (pc := 4) hF dX1_isStory_4 rfl rfl ?_
  refine s_iconst (pc := 5) hF dX1_isStory_5 (0 : Int32) (by decide) ?_
  refine s_aload_n (pc := 6) hF dX1_isStory_6 rfl rfl ?_
  refine s_geti (pc := 7) hF (fl_X1_153 hF) dX1_isStory_7 (fun v4 => ?_)
  refine s_iconst (pc := 10) hF dX1_isStory_10 (1 : Int32) (by decide) ?_
  refine s_isub (pc := 11) hF dX1_isStory_11 ?_
  refine s_callS (pc := 12) (As := [.int a1, .int (0 : Int32), .int (v4 - (1 : Int32))]) (st := []) (stf := fun r9 => .int r9 :: []) hF (mX1_within a1 (0 : Int32) (v4 - (1 : Int32))) cw_X1_within q1147 q1148 rfl ⟨Nat.le_of_ble_eq_true rfl, Nat.le_of_ble_eq_true rfl⟩ ⟨trivial, Nat.le_of_ble_eq_true rfl⟩ dX1_isStory_12 rfl (fun _ => rfl) (fun v5 M6 z7 => ?_)
  exact s_zret (pc := 15) hF dX1_isStory_15
theorem mX1_isStory (a0 : Option Nat) (a1 : Int32) : MT yX1_isStory cX1_isStory 2 (Option.some Jvm.ClassFile.FieldType.boolean) 6 142 eI [va_rf a0, .int a1] (fX1_isStory a0 a1) :=
  MT.of (L0 := [some (va_rf a0), some (.int a1)]) (by decide) ⟨ct _, ⟨rfl, trivial⟩⟩ (Nat.le_of_ble_eq_true rfl) rfl (fun _ _ hF M z => gX1_isStory hF a0 a1 M z)

def fX1_wordsIn_L12 : Nat → Option Nat → Int32 → Int32 → Int32 → Mp → Nat → Rs Int32
  | 0, _, _, _, _, _, _ => none
  | fu + 1, l0, l2, l3, l4, M, z => (gr M l0 [1] 19).bind fun v1 =>
(ai M 0 v1 l2).bind fun v2 =>
if l4 < v2 then
  ((gr M l0 [1] 7).bind fun v3 =>
(gr M l0 [1] 20).bind fun v4 =>
(ai M 0 v4 (((24 : Int32) * l2) + l4)).bind fun v5 =>
(ai M 0 v3 v5).bind fun v6 =>
fX1_wordsIn_L12 fu l0 l2 (l3 + v6) (l4 + 1) M z)
else
  (some (l3, M, 0, 0))

theorem gX1_wordsIn_L12 {G : Cx} {F : Option Value × Mp × Nat} (hF : FX G cX1_wordsIn 5 RX1 (Option.some Jvm.ClassFile.FieldType.int) "wordsIn" 0 0) : ∀ (fu : Nat) (l0 : Option Nat) (l2 : Int32) (l3 : Int32) (l4 : Int32) (M : Mp) (z : Nat), SK G F 5 eI 12 [some (va_rf l0), none, some (.int l2), some (.int l3), some (.int l4)] [] M z (fX1_wordsIn_L12 fu l0 l2 l3 l4 M z) := by
  intro fu
  induction fu with
  | zero => intros; exact SK.fail
  | succ fu ih =>
    intro l0 l2 l3 l4 M z
    rw [fX1_wordsIn_L12]
    refine s_iload (pc := 12) hF dX1_wordsIn_12 rfl ?_
    refine s_aload_n (pc := 14) hF dX1_wordsIn_14 rfl rfl ?_
    refine s_getr (pc := 15) hF (fl_X1_61 hF) dX1_wordsIn_15 (fun v1 => ?_)
    refine s_iload_n (pc := 18) hF dX1_wordsIn_18 rfl rfl ?_
    refine s_iald (pc := 19) hF dX1_wordsIn_19 (fun v2 => ?_)
    refine s_icmp_ge (pc := 20) hF 49 dX1_wordsIn_20 rfl ?_ ?_
    · refine s_iload_n (pc := 49) hF dX1_wordsIn_49 rfl rfl ?_
      exact s_iret (pc := 50) hF dX1_wordsIn_50
    · refine s_iload_n (pc := 23) hF dX1_wordsIn_23 rfl rfl ?_
      refine s_aload_n (pc := 24) hF dX1_wordsIn_24 rfl rfl ?_
      refine s_getr (pc := 25) hF (fl_X1_28 hF) dX1_wordsIn_25 (fun v3 => ?_)
      refine s_aload_n (pc := 28) hF dX1_wordsIn_28 rfl rfl ?_
      refine s_getr (pc := 29) hF (fl_X1_64 hF) dX1_wordsIn_29 (fun v4 => ?_)
      refine s_bipush (pc := 32) hF dX1_wordsIn_32 (24 : Int32) (by decide) ?_
      refine s_iload_n (pc := 34) hF dX1_wordsIn_34 rfl rfl ?_
      refine s_imul (pc := 35) hF dX1_wordsIn_35 ?_
      refine s_iload (pc := 36) hF dX1_wordsIn_36 rfl ?_
      refine s_iadd (pc := 38) hF dX1_wordsIn_38 ?_
      refine s_iald (pc := 39) hF dX1_wordsIn_39 (fun v5 => ?_)
      refine s_iald (pc := 40) hF dX1_wordsIn_40 (fun v6 => ?_)
      refine s_iadd (pc := 41) hF dX1_wordsIn_41 ?_
      refine s_istore_n (L9 := [some (va_rf l0), none, some (.int l2), some (.int (l3 + v6)), some (.int l4)]) (pc := 42) hF dX1_wordsIn_42 rfl (Nat.le_of_ble_eq_true rfl) rfl ?_
      refine s_iinc (v := l4 + 1) (L9 := [some (va_rf l0), none, some (.int l2), some (.int (l3 + v6)), some (.int (l4 + 1))]) (pc := 43) hF dX1_wordsIn_43 rfl rfl (Nat.le_of_ble_eq_true rfl) rfl ?_
      refine s_goto (pc := 46) hF 12 dX1_wordsIn_46 rfl ?_
      exact SK.sb (ih l0 l2 (l3 + v6) (l4 + 1) M z) ⟨rfl, ⟨rfl, ⟨rfl, ⟨rfl, trivial⟩⟩⟩⟩
def fX1_wordsIn (a0 : Option Nat) (a1 : Int32) (M : Mp) (z : Nat) : Rs Int32 := (gr M a0 [1] 22).bind fun v1 =>
(ai M 0 v1 a1).bind fun v2 =>
fX1_wordsIn_L12 FU a0 v2 (0 : Int32) (0 : Int32) M z
theorem gX1_wordsIn {G : Cx} {F : Option Value × Mp × Nat} (hF : FX G cX1_wordsIn 5 RX1 (Option.some Jvm.ClassFile.FieldType.int) "wordsIn" 0 0) (a0 : Option Nat) (a1 : Int32) (M : Mp) (z : Nat) : SK G F 5 eI 0 [some (va_rf a0), some (.int a1), none, none, none] [] M z (fX1_wordsIn a0 a1 M z) := by
  unfold fX1_wordsIn
  refine s_aload_n (pc := 0) hF dX1_wordsIn_0 rfl rfl ?_
  refine s_getr (pc := 1) hF (fl_X1_67 hF) dX1_wordsIn_1 (fun v1 => ?_)
  refine s_iload_n (pc := 4) hF dX1_wordsIn_4 rfl rfl ?_
  refine s_iald (pc := 5) hF dX1_wordsIn_5 (fun v2 => ?_)
  refine s_istore_n (L9 := [some (va_rf a0), some (.int a1), some (.int v2), none, none]) (pc := 6) hF dX1_wordsIn_6 rfl (Nat.le_of_ble_eq_true rfl) rfl ?_
  refine s_iconst (pc := 7) hF dX1_wordsIn_7 (0 : Int32) (by decide) ?_
  refine s_istore_n (L9 := [some (va_rf a0), some (.int a1), some (.int v2), some (.int (0 : Int32)), none]) (pc := 8) hF dX1_wordsIn_8 rfl (Nat.le_of_ble_eq_true rfl) rfl ?_
  refine s_iconst (pc := 9) hF dX1_wordsIn_9 (0 : Int32) (by decide) ?_
  refine s_istore (L9 := [some (va_rf a0), some (.int a1), some (.int v2), some (.int (0 : Int32)), some (.int (0 : Int32))]) (pc := 10) hF dX1_wordsIn_10 (Nat.le_of_ble_eq_true rfl) rfl ?_
  exact SK.sb (gX1_wordsIn_L12 hF FU a0 v2 (0 : Int32) (0 : Int32) M z) ⟨rfl, ⟨rfl, ⟨rfl, ⟨rfl, trivial⟩⟩⟩⟩
theorem mX1_wordsIn (a0 : Option Nat) (a1 : Int32) : MT yX1_wordsIn cX1_wordsIn 5 (Option.some Jvm.ClassFile.FieldType.int) 0 0 eI [va_rf a0, .int a1] (fX1_wordsIn a0 a1) :=
  MT.of (L0 := [some (va_rf a0), some (.int a1), none, none, none]) (by decide) ⟨ct _, ⟨rfl, trivial⟩⟩ (Nat.le_of_ble_eq_true rfl) rfl (fun _ _ hF M z => gX1_wordsIn hF a0 a1 M z)

def fX1_manyIn_J78 (r5 : Option Nat → Int32 → Int32 → Int32 → Int32 → Mp → Nat → Rs Int32) (l0 : Option Nat) (l1 : Int32) (l2 : Int32) (l4 : Int32) (s0 : Int32) (s1 : Int32) (M : Mp) (z : Nat) : Rs Int32 := r5 l0 l1 l2 (s0 + s1) (l4 + 1) M z

theorem gX1_manyIn_J78 {G : Cx} {F : Option Value × Mp × Nat}  {r5 : Option Nat → Int32 → Int32 → Int32 → Int32 → Mp → Nat → Rs Int32}(hF : FX G cX1_manyIn 6 RX1 (Option.some Jvm.ClassFile.FieldType.int) "manyIn" 0 0) (hr5 : ∀ l0 l1 l2 l3 l4 M z, SK G F 6 eI 5 [some (va_rf l0), some (.int l1), some (.int l2), some (.int l3), some (.int l4), none] [] M z (r5 l0 l1 l2 l3 l4 M z)) (l0 : Option Nat) (l1 : Int32) (l2 : Int32) (l4 : Int32) (s0 : Int32) (s1 : Int32) (M : Mp) (z : Nat) : SK G F 6 eI 78 [some (va_rf l0), some (.int l1), some (.int l2), none, some (.int l4), none] [.int s1, .int s0] M z (fX1_manyIn_J78 r5 l0 l1 l2 l4 s0 s1 M z) := by
  unfold fX1_manyIn_J78
  refine s_iadd (pc := 78) hF dX1_manyIn_78 ?_
  refine s_istore_n (L9 := [some (va_rf l0), some (.int l1), some (.int l2), some (.int (s0 + s1)), some (.int l4), none]) (pc := 79) hF dX1_manyIn_79 rfl (Nat.le_of_ble_eq_true rfl) rfl ?_
  refine s_iinc (v := l4 + 1) (L9 := [some (va_rf l0), some (.int l1), some (.int l2), some (.int (s0 + s1)), some (.int (l4 + 1)), none]) (pc := 80) hF dX1_manyIn_80 rfl rfl (Nat.le_of_ble_eq_true rfl) rfl ?_
  refine s_goto (pc := 83) hF 5 dX1_manyIn_83 rfl ?_
  exact SK.sb (hr5 l0 l1 l2 (s0 + s1) (l4 + 1) M z) ⟨rfl, ⟨rfl, ⟨rfl, ⟨rfl, ⟨rfl, trivial⟩⟩⟩⟩⟩

def fX1_manyIn_J54 (r5 : Option Nat → Int32 → Int32 → Int32 → Int32 → Mp → Nat → Rs Int32) (l0 : Option Nat) (l1 : Int32) (l2 : Int32) (l3 : Int32) (l4 : Int32) (s0 : Int32) (M : Mp) (z : Nat) : Rs Int32 := if s0 = 0 then
  (fX1_manyIn_J78 r5 l0 l1 l2 l4 l3 (0 : Int32) M z)
else
  ((gr M l0 [1] 23).bind fun v1 =>
(ai M 0 v1 l4).bind fun v2 =>
if v2 = l1 then
  (fX1_manyIn_J78 r5 l0 l1 l2 l4 l3 (1 : Int32) M z)
else
  (fX1_manyIn_J78 r5 l0 l1 l2 l4 l3 (0 : Int32) M z))

theorem gX1_manyIn_J54 {G : Cx} {F : Option Value × Mp × Nat}  {r5 : Option Nat → Int32 → Int32 → Int32 → Int32 → Mp → Nat → Rs Int32}(hF : FX G cX1_manyIn 6 RX1 (Option.some Jvm.ClassFile.FieldType.int) "manyIn" 0 0) (hr5 : ∀ l0 l1 l2 l3 l4 M z, SK G F 6 eI 5 [some (va_rf l0), some (.int l1), some (.int l2), some (.int l3), some (.int l4), none] [] M z (r5 l0 l1 l2 l3 l4 M z)) (l0 : Option Nat) (l1 : Int32) (l2 : Int32) (l3 : Int32) (l4 : Int32) (s0 : Int32) (M : Mp) (z : Nat) : SK G F 6 eI 54 [some (va_rf l0), some (.int l1), some (.int l2), some (.int l3), some (.int l4), none] [.int s0] M z (fX1_manyIn_J54 r5 l0 l1 l2 l3 l4 s0 M z) := by
  unfold fX1_manyIn_J54
  refine s_istore (L9 := [some (va_rf l0), some (.int l1), some (.int l2), some (.int l3), some (.int l4), some (.int s0)]) (pc := 54) hF dX1_manyIn_54 (Nat.le_of_ble_eq_true rfl) rfl ?_
  refine s_iload_n (pc := 56) hF dX1_manyIn_56 rfl rfl ?_
  refine s_iload (pc := 57) hF dX1_manyIn_57 rfl ?_
  refine s_if_eq (pc := 59) hF 77 dX1_manyIn_59 rfl ?_ ?_
  · refine s_iconst (pc := 77) hF dX1_manyIn_77 (0 : Int32) (by decide) ?_
    exact SK.sb (gX1_manyIn_J78 hF hr5 l0 l1 l2 l4 l3 (0 : Int32) M z) ⟨rfl, ⟨rfl, ⟨rfl, ⟨rfl, trivial⟩⟩⟩⟩
  · refine s_aload_n (pc := 62) hF dX1_manyIn_62 rfl rfl ?_
    refine s_getr (pc := 63) hF (fl_X1_70 hF) dX1_manyIn_63 (fun v1 => ?_)
    refine s_iload (pc := 66) hF dX1_manyIn_66 rfl ?_
    refine s_iald (pc := 68) hF dX1_manyIn_68 (fun v2 => ?_)
    refine s_iload_n (pc := 69) hF dX1_manyIn_69 rfl rfl ?_
    refine s_icmp_ne (pc := 70) hF 77 dX1_manyIn_70 rfl ?_ ?_
    · refine s_iconst (pc := 77) hF dX1_manyIn_77 (0 : Int32) (by decide) ?_
      exact SK.sb (gX1_manyIn_J78 hF hr5 l0 l1 l2 l4 l3 (0 : Int32) M z) ⟨rfl, ⟨rfl, ⟨rfl, ⟨rfl, trivial⟩⟩⟩⟩
    · refine s_iconst (pc := 73) hF dX1_manyIn_73 (1 : Int32) (by decide) ?_
      refine s_goto (pc := 74) hF 78 dX1_manyIn_74 rfl ?_
      exact SK.sb (gX1_manyIn_J78 hF hr5 l0 l1 l2 l4 l3 (1 : Int32) M z) ⟨rfl, ⟨rfl, ⟨rfl, ⟨rfl, trivial⟩⟩⟩⟩

def fX1_manyIn_L5 : Nat → Option Nat → Int32 → Int32 → Int32 → Int32 → Mp → Nat → Rs Int32
  | 0, _, _, _, _, _, _, _ => none
  | fu + 1, l0, l1, l2, l3, l4, M, z => (gi M l0 [1] 0).bind fun v1 =>
if l4 < v1 then
  (if l2 = 0 then
  ((gr M l0 [1] 18).bind fun v2 =>
(ai M 0 v2 l4).bind fun v3 =>
if v3 = (-9 : Int32) then
  (fX1_manyIn_J54 (fX1_manyIn_L5 fu) l0 l1 l2 l3 l4 (0 : Int32) M z)
else
  (fX1_manyIn_J54 (fX1_manyIn_L5 fu) l0 l1 l2 l3 l4 (1 : Int32) M z))
else
  ((gr M l0 [1] 2).bind fun v4 =>
(ai M 0 v4 l4).bind fun v5 =>
if v5 = (2 : Int32) then
  (fX1_manyIn_J54 (fX1_manyIn_L5 fu) l0 l1 l2 l3 l4 (1 : Int32) M z)
else
  (fX1_manyIn_J54 (fX1_manyIn_L5 fu) l0 l1 l2 l3 l4 (0 : Int32) M z)))
else
  (some (l3, M, 0, 0))

theorem gX1_manyIn_L5 {G : Cx} {F : Option Value × Mp × Nat} (hF : FX G cX1_manyIn 6 RX1 (Option.some Jvm.ClassFile.FieldType.int) "manyIn" 0 0) : ∀ (fu : Nat) (l0 : Option Nat) (l1 : Int32) (l2 : Int32) (l3 : Int32) (l4 : Int32) (M : Mp) (z : Nat), SK G F 6 eI 5 [some (va_rf l0), some (.int l1), some (.int l2), some (.int l3), some (.int l4), none] [] M z (fX1_manyIn_L5 fu l0 l1 l2 l3 l4 M z) := by
  intro fu
  induction fu with
  | zero => intros; exact SK.fail
  | succ fu ih =>
    intro l0 l1 l2 l3 l4 M z
    rw [fX1_manyIn_L5]
    refine s_iload (pc := 5) hF dX1_manyIn_5 rfl ?_
    refine s_aload_n (pc := 7) hF dX1_manyIn_7 rfl rfl ?_
    refine s_geti (pc := 8) hF (fl_X1_98 hF) dX1_manyIn_8 (fun v1 => ?_)
    refine s_icmp_ge (pc := 11) hF 86 dX1_manyIn_11 rfl ?_ ?_
    · refine s_iload_n (pc := 86) hF dX1_manyIn_86 rfl rfl ?_
      exact s_iret (pc := 87) hF dX1_manyIn_87
    · refine s_iload_n (pc := 14) hF dX1_manyIn_14 rfl rfl ?_
      refine s_if_eq (pc := 15) hF 37 dX1_manyIn_15 rfl ?_ ?_
      · refine s_aload_n (pc := 37) hF dX1_manyIn_37 rfl rfl ?_
        refine s_getr (pc := 38) hF (fl_X1_58 hF) dX1_manyIn_38 (fun v2 => ?_)
        refine s_iload (pc := 41) hF dX1_manyIn_41 rfl ?_
        refine s_iald (pc := 43) hF dX1_manyIn_43 (fun v3 => ?_)
        refine s_bipush (pc := 44) hF dX1_manyIn_44 (-9 : Int32) (by decide) ?_
        refine s_icmp_eq (pc := 46) hF 53 dX1_manyIn_46 rfl ?_ ?_
        · refine s_iconst (pc := 53) hF dX1_manyIn_53 (0 : Int32) (by decide) ?_
          exact SK.sb (gX1_manyIn_J54 hF ih l0 l1 l2 l3 l4 (0 : Int32) M z) ⟨rfl, ⟨rfl, ⟨rfl, ⟨rfl, ⟨rfl, trivial⟩⟩⟩⟩⟩
        · refine s_iconst (pc := 49) hF dX1_manyIn_49 (1 : Int32) (by decide) ?_
          refine s_goto (pc := 50) hF 54 dX1_manyIn_50 rfl ?_
          exact SK.sb (gX1_manyIn_J54 hF ih l0 l1 l2 l3 l4 (1 : Int32) M z) ⟨rfl, ⟨rfl, ⟨rfl, ⟨rfl, ⟨rfl, trivial⟩⟩⟩⟩⟩
      · refine s_aload_n (pc := 18) hF dX1_manyIn_18 rfl rfl ?_
        refine s_getr (pc := 19) hF (fl_X1_13 hF) dX1_manyIn_19 (fun v4 => ?_)
        refine s_iload (pc := 22) hF dX1_manyIn_22 rfl ?_
        refine s_iald (pc := 24) hF dX1_manyIn_24 (fun v5 => ?_)
        refine s_iconst (pc := 25) hF dX1_manyIn_25 (2 : Int32) (by decide) ?_
        refine s_icmp_ne (pc := 26) hF 33 dX1_manyIn_26 rfl ?_ ?_
        · refine s_iconst (pc := 33) hF dX1_manyIn_33 (0 : Int32) (by decide) ?_
          refine s_goto (pc := 34) hF 54 dX1_manyIn_34 rfl ?_
          exact SK.sb (gX1_manyIn_J54 hF ih l0 l1 l2 l3 l4 (0 : Int32) M z) ⟨rfl, ⟨rfl, ⟨rfl, ⟨rfl, ⟨rfl, trivial⟩⟩⟩⟩⟩
        · refine s_iconst (pc := 29) hF dX1_manyIn_29 (1 : Int32) (by decide) ?_
          refine s_goto (pc := 30) hF 54 dX1_manyIn_30 rfl ?_
          exact SK.sb (gX1_manyIn_J54 hF ih l0 l1 l2 l3 l4 (1 : Int32) M z) ⟨rfl, ⟨rfl, ⟨rfl, ⟨rfl, ⟨rfl, trivial⟩⟩⟩⟩⟩
def fX1_manyIn (a0 : Option Nat) (a1 : Int32) (a2 : Int32) (M : Mp) (z : Nat) : Rs Int32 := fX1_manyIn_L5 FU a0 a1 a2 (0 : Int32) (0 : Int32) M z
theorem gX1_manyIn {G : Cx} {F : Option Value × Mp × Nat} (hF : FX G cX1_manyIn 6 RX1 (Option.some Jvm.ClassFile.FieldType.int) "manyIn" 0 0) (a0 : Option Nat) (a1 : Int32) (a2 : Int32) (M : Mp) (z : Nat) : SK G F 6 eI 0 [some (va_rf a0), some (.int a1), some (.int a2), none, none, none] [] M z (fX1_manyIn a0 a1 a2 M z) := by
  unfold fX1_manyIn
  refine s_iconst (pc := 0) hF dX1_manyIn_0 (0 : Int32) (by decide) ?_
  refine s_istore_n (L9 := [some (va_rf a0), some (.int a1), some (.int a2), some (.int (0 : Int32)), none, none]) (pc := 1) hF dX1_manyIn_1 rfl (Nat.le_of_ble_eq_true rfl) rfl ?_
  refine s_iconst (pc := 2) hF dX1_manyIn_2 (0 : Int32) (by decide) ?_
  refine s_istore (L9 := [some (va_rf a0), some (.int a1), some (.int a2), some (.int (0 : Int32)), some (.int (0 : Int32)), none]) (pc := 3) hF dX1_manyIn_3 (Nat.le_of_ble_eq_true rfl) rfl ?_
  exact SK.sb (gX1_manyIn_L5 hF FU a0 a1 a2 (0 : Int32) (0 : Int32) M z) ⟨rfl, ⟨rfl, ⟨rfl, ⟨rfl, ⟨rfl, trivial⟩⟩⟩⟩⟩
theorem mX1_manyIn (a0 : Option Nat) (a1 : Int32) (a2 : Int32) : MT yX1_manyIn cX1_manyIn 6 (Option.some Jvm.ClassFile.FieldType.int) 0 0 eI [va_rf a0, .int a1, .int a2] (fX1_manyIn a0 a1 a2) :=
  MT.of (L0 := [some (va_rf a0), some (.int a1), some (.int a2), none, none, none]) (by decide) ⟨ct _, ⟨rfl, ⟨rfl, trivial⟩⟩⟩ (Nat.le_of_ble_eq_true rfl) rfl (fun _ _ hF M z => gX1_manyIn hF a0 a1 a2 M z)

def fX1_isBroken (a0 : Option Nat) (a1 : Int32) (M : Mp) (z : Nat) : Rs Int32 := (gr M a0 [1] 24).bind fun v1 =>
(ai M 1 v1 a1).bind fun v2 =>
if v2 = 0 then
  (some ((0 : Int32), M, 0, 0))
else
  ((gr M a0 [1] 26).bind fun v3 =>
(ai M 0 v3 a1).bind fun v4 =>
if v4 = (-9 : Int32) then
  (some ((1 : Int32), M, 0, 0))
else
  (some ((0 : Int32), M, 0, 0)))
theorem gX1_isBroken {G : Cx} {F : Option Value × Mp × Nat} (hF : FX G cX1_isBroken 2 RX1 (Option.some Jvm.ClassFile.FieldType.boolean) "isBroken" 0 0) (a0 : Option Nat) (a1 : Int32) (M : Mp) (z : Nat) : SK G F 2 eI 0 [some (va_rf a0), some (.int a1)] [] M z (fX1_isBroken a0 a1 M z) := by
  unfold fX1_isBroken
  refine s_aload_n (pc := 0) hF dX1_isBroken_0 rfl rfl ?_
  refine s_getr (pc := 1) hF (fl_X1_73 hF) dX1_isBroken_1 (fun v1 => ?_)
  refine s_iload_n (pc := 4) hF dX1_isBroken_4 rfl rfl ?_
  refine s_zald (pc := 5) hF dX1_isBroken_5 (fun v2 => ?_)
  refine s_if_eq (pc := 6) hF 24 dX1_isBroken_6 rfl ?_ ?_
  · refine s_iconst (pc := 24) hF dX1_isBroken_24 (0 : Int32) (by decide) ?_
    exact s_zretL (pc := 25) hF dX1_isBroken_25 (by decide)
  · refine s_aload_n (pc := 9) hF dX1_isBroken_9 rfl rfl ?_
    refine s_getr (pc := 10) hF (fl_X1_80 hF) dX1_isBroken_10 (fun v3 => ?_)
    refine s_iload_n (pc := 13) hF dX1_isBroken_13 rfl rfl ?_
    refine s_iald (pc := 14) hF dX1_isBroken_14 (fun v4 => ?_)
    refine s_bipush (pc := 15) hF dX1_isBroken_15 (-9 : Int32) (by decide) ?_
    refine s_icmp_ne (pc := 17) hF 24 dX1_isBroken_17 rfl ?_ ?_
    · refine s_iconst (pc := 24) hF dX1_isBroken_24 (0 : Int32) (by decide) ?_
      exact s_zretL (pc := 25) hF dX1_isBroken_25 (by decide)
    · refine s_iconst (pc := 20) hF dX1_isBroken_20 (1 : Int32) (by decide) ?_
      refine s_goto (pc := 21) hF 25 dX1_isBroken_21 rfl ?_
      exact s_zretL (pc := 25) hF dX1_isBroken_25 (by decide)
theorem mX1_isBroken (a0 : Option Nat) (a1 : Int32) : MT yX1_isBroken cX1_isBroken 2 (Option.some Jvm.ClassFile.FieldType.boolean) 0 0 eI [va_rf a0, .int a1] (fX1_isBroken a0 a1) :=
  MT.of (L0 := [some (va_rf a0), some (.int a1)]) (by decide) ⟨ct _, ⟨rfl, trivial⟩⟩ (Nat.le_of_ble_eq_true rfl) rfl (fun _ _ hF M z => gX1_isBroken hF a0 a1 M z)

theorem cw_X1_wordsIn : CWm yX1_wordsIn cX1_wordsIn 5 (Option.some Jvm.ClassFile.FieldType.int) 1 := ⟨q1297, q63, by decide +kernel, by decide +kernel, by decide +kernel⟩
theorem cw_X1_manyIn : CWm yX1_manyIn cX1_manyIn 6 (Option.some Jvm.ClassFile.FieldType.int) 2 := ⟨q1301, q63, by decide +kernel, by decide +kernel, by decide +kernel⟩
theorem cw_X1_isBroken : CWm yX1_isBroken cX1_isBroken 2 (Option.some Jvm.ClassFile.FieldType.boolean) 1 := ⟨q1305, q63, by decide +kernel, by decide +kernel, by decide +kernel⟩
theorem cw_X1_isStory : CWm yX1_isStory cX1_isStory 2 (Option.some Jvm.ClassFile.FieldType.boolean) 1 := ⟨q1277, q63, by decide +kernel, by decide +kernel, by decide +kernel⟩
def fX1_ofStory (a0 : Option Nat) (a1 : Int32) (a2 : Int32) (M : Mp) (z : Nat) : Rs Int32 := if ckc M a0 [1] = true then
  (cb (fX1_isStory a0 a1 M z) z fun v1 M2 z3 =>
if v1 = 0 then
  (some ((-1 : Int32), M2, 0, 0))
else
  ((gr M2 a0 [1] 22).bind fun v4 =>
(ai M2 0 v4 a1).bind fun v5 =>
if a2 = 0 then
  ((gr M2 a0 [1] 2).bind fun v6 =>
(ai M2 0 v6 v5).bind fun v7 =>
if v7 = 0 then
  (some (v5, M2, 0, 0))
else
  (some ((-9 : Int32), M2, 0, 0)))
else if a2 = 1 then
  ((gr M2 a0 [1] 19).bind fun v8 =>
(ai M2 0 v8 v5).bind fun v9 =>
some (v9, M2, 0, 0))
else if a2 = 2 then
  (if ckc M2 a0 [1] = true then
  (cb (fX1_wordsIn a0 a1 M2 z3) z3 fun v10 M11 z12 =>
some (v10, M11, 0, 0))
else none)
else if a2 = 3 then
  (if ckc M2 a0 [1] = true then
  (cb (fX1_manyIn a0 a1 (1 : Int32) M2 z3) z3 fun v13 M14 z15 =>
some (v13, M14, 0, 0))
else none)
else if a2 = 4 then
  (if ckc M2 a0 [1] = true then
  (cb (fX1_manyIn a0 a1 (0 : Int32) M2 z3) z3 fun v16 M17 z18 =>
some (v16, M17, 0, 0))
else none)
else if a2 = 5 then
  ((gr M2 a0 [1] 26).bind fun v19 =>
(ai M2 0 v19 a1).bind fun v20 =>
some (v20, M2, 0, 0))
else if a2 = 6 then
  ((gr M2 a0 [1] 27).bind fun v21 =>
(ai M2 0 v21 a1).bind fun v22 =>
some (v22, M2, 0, 0))
else if a2 = 7 then
  ((gr M2 a0 [1] 32).bind fun v23 =>
(ai M2 0 v23 a1).bind fun v24 =>
some (v24, M2, 0, 0))
else if a2 = 8 then
  (if ckc M2 a0 [1] = true then
  (cb (fX1_isBroken a0 a1 M2 z3) z3 fun v25 M26 z27 =>
if v25 = 0 then
  (some ((0 : Int32), M26, 0, 0))
else
  (some ((1 : Int32), M26, 0, 0)))
else none)
else 
  (some ((-2 : Int32), M2, 0, 0))))
else none
theorem gX1_ofStory {G : Cx} {F : Option Value × Mp × Nat} (hF : FX G cX1_ofStory 4 RX1 (Option.some Jvm.ClassFile.FieldType.int) "ofStory" 7 163) (a0 : Option Nat) (a1 : Int32) (a2 : Int32) (M : Mp) (z : Nat) : SK G F 4 eI 0 [some (va_rf a0), some (.int a1), some (.int a2), none] [] M z (fX1_ofStory a0 a1 a2 M z) := by
  unfold fX1_ofStory
  refine s_aload_n (pc := 0) hF dX1_ofStory_0 rfl rfl ?_
  refine s_iload_n (pc := 1) hF dX1_ofStory_1 rfl rfl ?_
  refine s_callV (pc := 2) (As := [.int a1]) (st := []) (stf := fun r9 => .int r9 :: []) hF (mX1_isStory a0 a1) cw_X1_isStory q1274 q1276 (List.forall_mem_cons.mpr ⟨⟨(RX1, TX1, 34), rfl, qs41⟩, fun _ h9 => absurd h9 List.not_mem_nil⟩) rfl ⟨Nat.le_of_ble_eq_true rfl, Nat.le_of_ble_eq_true rfl⟩ ⟨trivial, Nat.le_of_ble_eq_true rfl⟩ dX1_ofStory_2 rfl (fun _ => rfl) (fun v1 M2 z3 => ?_)
  refine s_if_ne (pc := 5) hF 10 dX1_ofStory_5 rfl ?_ ?_
  · refine s_aload_n (pc := 10) hF dX1_ofStory_10 rfl rfl ?_
    refine s_getr (pc := 11) hF (fl_X1_67 hF) dX1_ofStory_11 (fun v4 => ?_)
    refine s_iload_n (pc := 14) hF dX1_ofStory_14 rfl rfl ?_
    refine s_iald (pc := 15) hF dX1_ofStory_15 (fun v5 => ?_)
    refine s_istore_n (L9 := [some (va_rf a0), some (.int a1), some (.int a2), some (.int v5)]) (pc := 16) hF dX1_ofStory_16 rfl (Nat.le_of_ble_eq_true rfl) rfl ?_
    refine s_iload_n (pc := 17) hF dX1_ofStory_17 rfl rfl ?_
    refine s_case (v := 0) (pc := 18) hF 68 dX1_ofStory_18 (by decide) rfl rfl ?_ (fun h9_0 => ?_)
    · refine s_aload_n (pc := 68) hF dX1_ofStory_68 rfl rfl ?_
      refine s_getr (pc := 69) hF (fl_X1_13 hF) dX1_ofStory_69 (fun v6 => ?_)
      refine s_iload_n (pc := 72) hF dX1_ofStory_72 rfl rfl ?_
      refine s_iald (pc := 73) hF dX1_ofStory_73 (fun v7 => ?_)
      refine s_if_ne (pc := 74) hF 81 dX1_ofStory_74 rfl ?_ ?_
      · refine s_bipush (pc := 81) hF dX1_ofStory_81 (-9 : Int32) (by decide) ?_
        exact s_iret (pc := 83) hF dX1_ofStory_83
      · refine s_iload_n (pc := 77) hF dX1_ofStory_77 rfl rfl ?_
        refine s_goto (pc := 78) hF 83 dX1_ofStory_78 rfl ?_
        exact s_iret (pc := 83) hF dX1_ofStory_83
    refine s_case (v := 1) (pc := 18) hF 84 dX1_ofStory_18 (by decide) rfl rfl ?_ (fun h9_1 => ?_)
    · refine s_aload_n (pc := 84) hF dX1_ofStory_84 rfl rfl ?_
      refine s_getr (pc := 85) hF (fl_X1_61 hF) dX1_ofStory_85 (fun v8 => ?_)
      refine s_iload_n (pc := 88) hF dX1_ofStory_88 rfl rfl ?_
      refine s_iald (pc := 89) hF dX1_ofStory_89 (fun v9 => ?_)
      exact s_iret (pc := 90) hF dX1_ofStory_90
    refine s_case (v := 2) (pc := 18) hF 91 dX1_ofStory_18 (by decide) rfl rfl ?_ (fun h9_2 => ?_)
    · refine s_aload_n (pc := 91) hF dX1_ofStory_91 rfl rfl ?_
      refine s_iload_n (pc := 92) hF dX1_ofStory_92 rfl rfl ?_
      refine s_callV (pc := 93) (As := [.int a1]) (st := []) (stf := fun r9 => .int r9 :: []) hF (mX1_wordsIn a0 a1) cw_X1_wordsIn q1294 q1296 (List.forall_mem_cons.mpr ⟨⟨(RX1, TX1, 34), rfl, qs46⟩, fun _ h9 => absurd h9 List.not_mem_nil⟩) rfl ⟨Nat.le_of_ble_eq_true rfl, Nat.le_of_ble_eq_true rfl⟩ ⟨trivial, Nat.le_of_ble_eq_true rfl⟩ dX1_ofStory_93 rfl (fun _ => rfl) (fun v10 M11 z12 => ?_)
      exact s_iret (pc := 96) hF dX1_ofStory_96
    refine s_case (v := 3) (pc := 18) hF 97 dX1_ofStory_18 (by decide) rfl rfl ?_ (fun h9_3 => ?_)
    · refine s_aload_n (pc := 97) hF dX1_ofStory_97 rfl rfl ?_
      refine s_iload_n (pc := 98) hF dX1_ofStory_98 rfl rfl ?_
      refine s_iconst (pc := 99) hF dX1_ofStory_99 (1 : Int32) (by decide) ?_
      refine s_callV (pc := 100) (As := [.int a1, .int (1 : Int32)]) (st := []) (stf := fun r9 => .int r9 :: []) hF (mX1_manyIn a0 a1 (1 : Int32)) cw_X1_manyIn q1298 q1300 (List.forall_mem_cons.mpr ⟨⟨(RX1, TX1, 34), rfl, qs47⟩, fun _ h9 => absurd h9 List.not_mem_nil⟩) rfl ⟨Nat.le_of_ble_eq_true rfl, Nat.le_of_ble_eq_true rfl⟩ ⟨trivial, Nat.le_of_ble_eq_true rfl⟩ dX1_ofStory_100 rfl (fun _ => rfl) (fun v13 M14 z15 => ?_)
      exact s_iret (pc := 103) hF dX1_ofStory_103
    refine s_case (v := 4) (pc := 18) hF 104 dX1_ofStory_18 (by decide) rfl rfl ?_ (fun h9_4 => ?_)
    · refine s_aload_n (pc := 104) hF dX1_ofStory_104 rfl rfl ?_
      refine s_iload_n (pc := 105) hF dX1_ofStory_105 rfl rfl ?_
      refine s_iconst (pc := 106) hF dX1_ofStory_106 (0 : Int32) (by decide) ?_
      refine s_callV (pc := 107) (As := [.int a1, .int (0 : Int32)]) (st := []) (stf := fun r9 => .int r9 :: []) hF (mX1_manyIn a0 a1 (0 : Int32)) cw_X1_manyIn q1298 q1300 (List.forall_mem_cons.mpr ⟨⟨(RX1, TX1, 34), rfl, qs47⟩, fun _ h9 => absurd h9 List.not_mem_nil⟩) rfl ⟨Nat.le_of_ble_eq_true rfl, Nat.le_of_ble_eq_true rfl⟩ ⟨trivial, Nat.le_of_ble_eq_true rfl⟩ dX1_ofStory_107 rfl (fun _ => rfl) (fun v16 M17 z18 => ?_)
      exact s_iret (pc := 110) hF dX1_ofStory_110
    refine s_case (v := 5) (pc := 18) hF 111 dX1_ofStory_18 (by decide) rfl rfl ?_ (fun h9_5 => ?_)
    · refine s_aload_n (pc := 111) hF dX1_ofStory_111 rfl rfl ?_
      refine s_getr (pc := 112) hF (fl_X1_80 hF) dX1_ofStory_112 (fun v19 => ?_)
      refine s_iload_n (pc := 115) hF dX1_ofStory_115 rfl rfl ?_
      refine s_iald (pc := 116) hF dX1_ofStory_116 (fun v20 => ?_)
      exact s_iret (pc := 117) hF dX1_ofStory_117
    refine s_case (v := 6) (pc := 18) hF 118 dX1_ofStory_18 (by decide) rfl rfl ?_ (fun h9_6 => ?_)
    · refine s_aload_n (pc := 118) hF dX1_ofStory_118 rfl rfl ?_
      refine s_getr (pc := 119) hF (fl_X1_83 hF) dX1_ofStory_119 (fun v21 => ?_)
      refine s_iload_n (pc := 122) hF dX1_ofStory_122 rfl rfl ?_
      refine s_iald (pc := 123) hF dX1_ofStory_123 (fun v22 => ?_)
      exact s_iret (pc := 124) hF dX1_ofStory_124
    refine s_case (v := 7) (pc := 18) hF 125 dX1_ofStory_18 (by decide) rfl rfl ?_ (fun h9_7 => ?_)
    · refine s_aload_n (pc := 125) hF dX1_ofStory_125 rfl rfl ?_
      refine s_getr (pc := 126) hF (fl_X1_95 hF) dX1_ofStory_126 (fun v23 => ?_)
      refine s_iload_n (pc := 129) hF dX1_ofStory_129 rfl rfl ?_
      refine s_iald (pc := 130) hF dX1_ofStory_130 (fun v24 => ?_)
      exact s_iret (pc := 131) hF dX1_ofStory_131
    refine s_case (v := 8) (pc := 18) hF 132 dX1_ofStory_18 (by decide) rfl rfl ?_ (fun h9_8 => ?_)
    · refine s_aload_n (pc := 132) hF dX1_ofStory_132 rfl rfl ?_
      refine s_iload_n (pc := 133) hF dX1_ofStory_133 rfl rfl ?_
      refine s_callV (pc := 134) (As := [.int a1]) (st := []) (stf := fun r9 => .int r9 :: []) hF (mX1_isBroken a0 a1) cw_X1_isBroken q1302 q1304 (List.forall_mem_cons.mpr ⟨⟨(RX1, TX1, 34), rfl, qs48⟩, fun _ h9 => absurd h9 List.not_mem_nil⟩) rfl ⟨Nat.le_of_ble_eq_true rfl, Nat.le_of_ble_eq_true rfl⟩ ⟨trivial, Nat.le_of_ble_eq_true rfl⟩ dX1_ofStory_134 rfl (fun _ => rfl) (fun v25 M26 z27 => ?_)
      refine s_if_eq (pc := 137) hF 144 dX1_ofStory_137 rfl ?_ ?_
      · refine s_iconst (pc := 144) hF dX1_ofStory_144 (0 : Int32) (by decide) ?_
        exact s_iret (pc := 145) hF dX1_ofStory_145
      · refine s_iconst (pc := 140) hF dX1_ofStory_140 (1 : Int32) (by decide) ?_
        refine s_goto (pc := 141) hF 145 dX1_ofStory_141 rfl ?_
        exact s_iret (pc := 145) hF dX1_ofStory_145
    refine s_dflt (pc := 18) hF 146 dX1_ofStory_18 (by
    have := lv_neT (a := 0) h9_0 rfl
    have := lv_neT (a := 1) h9_1 rfl
    have := lv_neT (a := 2) h9_2 rfl
    have := lv_neT (a := 3) h9_3 rfl
    have := lv_neT (a := 4) h9_4 rfl
    have := lv_neT (a := 5) h9_5 rfl
    have := lv_neT (a := 6) h9_6 rfl
    have := lv_neT (a := 7) h9_7 rfl
    have := lv_neT (a := 8) h9_8 rfl
    omega) rfl ?_
    refine s_bipush (pc := 146) hF dX1_ofStory_146 (-2 : Int32) (by decide) ?_
    exact s_iret (pc := 148) hF dX1_ofStory_148
  · refine s_iconst (pc := 8) hF dX1_ofStory_8 (-1 : Int32) (by decide) ?_
    exact s_iret (pc := 9) hF dX1_ofStory_9
theorem mX1_ofStory (a0 : Option Nat) (a1 : Int32) (a2 : Int32) : MT yX1_ofStory cX1_ofStory 4 (Option.some Jvm.ClassFile.FieldType.int) 7 163 eI [va_rf a0, .int a1, .int a2] (fX1_ofStory a0 a1 a2) :=
  MT.of (L0 := [some (va_rf a0), some (.int a1), some (.int a2), none]) (by decide) ⟨ct _, ⟨rfl, ⟨rfl, trivial⟩⟩⟩ (Nat.le_of_ble_eq_true rfl) rfl (fun _ _ hF M z => gX1_ofStory hF a0 a1 a2 M z)

def fX1_text (a0 : Option Nat) (a1 : Int32) (a2 : Int32) (M : Mp) (z : Nat) : Rs Int32 := if ckc M a0 [1] = true then
  (cb (fX1_isStory a0 a1 M z) z fun v1 M2 z3 =>
if v1 = 0 then
  (some ((-1 : Int32), M2, 0, 0))
else
  (cb (fX1_within a2 (0 : Int32) (23 : Int32) M2 z3) z3 fun v4 M5 z6 =>
if v4 = 0 then
  (some ((-2 : Int32), M5, 0, 0))
else
  ((gr M5 a0 [1] 22).bind fun v7 =>
(ai M5 0 v7 a1).bind fun v8 =>
(gr M5 a0 [1] 19).bind fun v9 =>
(ai M5 0 v9 v8).bind fun v10 =>
if a2 < v10 then
  ((gr M5 a0 [1] 20).bind fun v11 =>
(ai M5 0 v11 (((24 : Int32) * v8) + a2)).bind fun v12 =>
some (v12, M5, 0, 0))
else
  (some ((-9 : Int32), M5, 0, 0)))))
else none
theorem gX1_text {G : Cx} {F : Option Value × Mp × Nat} (hF : FX G cX1_text 4 RX1 (Option.some Jvm.ClassFile.FieldType.int) "text" 7 163) (a0 : Option Nat) (a1 : Int32) (a2 : Int32) (M : Mp) (z : Nat) : SK G F 4 eI 0 [some (va_rf a0), some (.int a1), some (.int a2), none] [] M z (fX1_text a0 a1 a2 M z) := by
  unfold fX1_text
  refine s_aload_n (pc := 0) hF dX1_text_0 rfl rfl ?_
  refine s_iload_n (pc := 1) hF dX1_text_1 rfl rfl ?_
  refine s_callV (pc := 2) (As := [.int a1]) (st := []) (stf := fun r9 => .int r9 :: []) hF (mX1_isStory a0 a1) cw_X1_isStory q1274 q1276 (List.forall_mem_cons.mpr ⟨⟨(RX1, TX1, 34), rfl, qs41⟩, fun _ h9 => absurd h9 List.not_mem_nil⟩) rfl ⟨Nat.le_of_ble_eq_true rfl, Nat.le_of_ble_eq_true rfl⟩ ⟨trivial, Nat.le_of_ble_eq_true rfl⟩ dX1_text_2 rfl (fun _ => rfl) (fun v1 M2 z3 => ?_)
  refine s_if_ne (pc := 5) hF 10 dX1_text_5 rfl ?_ ?_
  · refine s_iload_n (pc := 10) hF dX1_text_10 rfl rfl ?_
    refine s_iconst (pc := 11) hF dX1_text_11 (0 : Int32) (by decide) ?_
    refine s_bipush (pc := 12) hF dX1_text_12 (23 : Int32) (by decide) ?_
    refine s_callS (pc := 14) (As := [.int a2, .int (0 : Int32), .int (23 : Int32)]) (st := []) (stf := fun r9 => .int r9 :: []) hF (mX1_within a2 (0 : Int32) (23 : Int32)) cw_X1_within q1147 q1148 rfl ⟨Nat.le_of_ble_eq_true rfl, Nat.le_of_ble_eq_true rfl⟩ ⟨trivial, Nat.le_of_ble_eq_true rfl⟩ dX1_text_14 rfl (fun _ => rfl) (fun v4 M5 z6 => ?_)
    refine s_if_ne (pc := 17) hF 23 dX1_text_17 rfl ?_ ?_
    · refine s_aload_n (pc := 23) hF dX1_text_23 rfl rfl ?_
      refine s_getr (pc := 24) hF (fl_X1_67 hF) dX1_text_24 (fun v7 => ?_)
      refine s_iload_n (pc := 27) hF dX1_text_27 rfl rfl ?_
      refine s_iald (pc := 28) hF dX1_text_28 (fun v8 => ?_)
      refine s_istore_n (L9 := [some (va_rf a0), some (.int a1), some (.int a2), some (.int v8)]) (pc := 29) hF dX1_text_29 rfl (Nat.le_of_ble_eq_true rfl) rfl ?_
      refine s_iload_n (pc := 30) hF dX1_text_30 rfl rfl ?_
      refine s_aload_n (pc := 31) hF dX1_text_31 rfl rfl ?_
      refine s_getr (pc := 32) hF (fl_X1_61 hF) dX1_text_32 (fun v9 => ?_)
      refine s_iload_n (pc := 35) hF dX1_text_35 rfl rfl ?_
      refine s_iald (pc := 36) hF dX1_text_36 (fun v10 => ?_)
      refine s_icmp_ge (pc := 37) hF 54 dX1_text_37 rfl ?_ ?_
      · refine s_bipush (pc := 54) hF dX1_text_54 (-9 : Int32) (by decide) ?_
        exact s_iret (pc := 56) hF dX1_text_56
      · refine s_aload_n (pc := 40) hF dX1_text_40 rfl rfl ?_
        refine s_getr (pc := 41) hF (fl_X1_64 hF) dX1_text_41 (fun v11 => ?_)
        refine s_bipush (pc := 44) hF dX1_text_44 (24 : Int32) (by decide) ?_
        refine s_iload_n (pc := 46) hF dX1_text_46 rfl rfl ?_
        refine s_imul (pc := 47) hF dX1_text_47 ?_
        refine s_iload_n (pc := 48) hF dX1_text_48 rfl rfl ?_
        refine s_iadd (pc := 49) hF dX1_text_49 ?_
        refine s_iald (pc := 50) hF dX1_text_50 (fun v12 => ?_)
        refine s_goto (pc := 51) hF 56 dX1_text_51 rfl ?_
        exact s_iret (pc := 56) hF dX1_text_56
    · refine s_bipush (pc := 20) hF dX1_text_20 (-2 : Int32) (by decide) ?_
      exact s_iret (pc := 22) hF dX1_text_22
  · refine s_iconst (pc := 8) hF dX1_text_8 (-1 : Int32) (by decide) ?_
    exact s_iret (pc := 9) hF dX1_text_9
theorem mX1_text (a0 : Option Nat) (a1 : Int32) (a2 : Int32) : MT yX1_text cX1_text 4 (Option.some Jvm.ClassFile.FieldType.int) 7 163 eI [va_rf a0, .int a1, .int a2] (fX1_text a0 a1 a2) :=
  MT.of (L0 := [some (va_rf a0), some (.int a1), some (.int a2), none]) (by decide) ⟨ct _, ⟨rfl, ⟨rfl, trivial⟩⟩⟩ (Nat.le_of_ble_eq_true rfl) rfl (fun _ _ hF M z => gX1_text hF a0 a1 a2 M z)

def fX1_isArticle (a0 : Option Nat) (a1 : Int32) (M : Mp) (z : Nat) : Rs Int32 := if ckc M a0 [1] = true then
  (cb (fX1_findArticles a0 M z) z fun _ M2 z3 =>
(gi M2 a0 [1] 28).bind fun v4 =>
cb (fX1_within a1 (0 : Int32) (v4 - (1 : Int32)) M2 z3) z3 fun v5 M6 z7 =>
if v5 = 0 ∨ v5 = 1 then some (v5, M6, 0, 0) else none)
else none
theorem gX1_isArticle {G : Cx} {F : Option Value × Mp × Nat} (hF : FX G cX1_isArticle 2 RX1 (Option.some Jvm.ClassFile.FieldType.boolean) "isArticle" 6 142) (a0 : Option Nat) (a1 : Int32) (M : Mp) (z : Nat) : SK G F 2 eI 0 [some (va_rf a0), some (.int a1)] [] M z (fX1_isArticle a0 a1 M z) := by
  unfold fX1_isArticle
  refine s_aload_n (pc := 0) hF dX1_isArticle_0 rfl rfl ?_
  refine s_callV (pc := 1) (As := []) (st := []) (stf := fun r9 => []) hF (mX1_findArticles a0) cw_X1_findArticles q1278 q1280 (List.forall_mem_cons.mpr ⟨⟨(RX1, TX1, 34), rfl, qs42⟩, fun _ h9 => absurd h9 List.not_mem_nil⟩) rfl ⟨Nat.le_of_ble_eq_true rfl, Nat.le_of_ble_eq_true rfl⟩ ⟨trivial, Nat.le_of_ble_eq_true rfl⟩ dX1_isArticle_1 rfl (fun _ => rfl) (fun v1 M2 z3 => ?_)
  refine s_iload_n (pc := 4) hF dX1_isArticle_4 rfl rfl ?_
  refine s_iconst (pc := 5) hF dX1_isArticle_5 (0 : Int32) (by decide) ?_
  refine s_aload_n (pc := 6) hF dX1_isArticle_6 rfl rfl ?_
  refine s_geti (pc := 7) hF (fl_X1_162 hF) dX1_isArticle_7 (fun v4 => ?_)
  refine s_iconst (pc := 10) hF dX1_isArticle_10 (1 : Int32) (by decide) ?_
  refine s_isub (pc := 11) hF dX1_isArticle_11 ?_
  refine s_callS (pc := 12) (As := [.int a1, .int (0 : Int32), .int (v4 - (1 : Int32))]) (st := []) (stf := fun r9 => .int r9 :: []) hF (mX1_within a1 (0 : Int32) (v4 - (1 : Int32))) cw_X1_within q1147 q1148 rfl ⟨Nat.le_of_ble_eq_true rfl, Nat.le_of_ble_eq_true rfl⟩ ⟨trivial, Nat.le_of_ble_eq_true rfl⟩ dX1_isArticle_12 rfl (fun _ => rfl) (fun v5 M6 z7 => ?_)
  exact s_zret (pc := 15) hF dX1_isArticle_15
theorem mX1_isArticle (a0 : Option Nat) (a1 : Int32) : MT yX1_isArticle cX1_isArticle 2 (Option.some Jvm.ClassFile.FieldType.boolean) 6 142 eI [va_rf a0, .int a1] (fX1_isArticle a0 a1) :=
  MT.of (L0 := [some (va_rf a0), some (.int a1)]) (by decide) ⟨ct _, ⟨rfl, trivial⟩⟩ (Nat.le_of_ble_eq_true rfl) rfl (fun _ _ hF M z => gX1_isArticle hF a0 a1 M z)

def fX1_sumOf_J59 (r10 : Option Nat → Int32 → Int32 → Int32 → Int32 → Mp → Nat → Rs Int32) (l0 : Option Nat) (l1 : Int32) (l2 : Int32) (l4 : Int32) (s0 : Int32) (s1 : Int32) (M : Mp) (z : Nat) : Rs Int32 := r10 l0 l1 l2 (s0 + s1) (l4 + 1) M z

theorem gX1_sumOf_J59 {G : Cx} {F : Option Value × Mp × Nat}  {r10 : Option Nat → Int32 → Int32 → Int32 → Int32 → Mp → Nat → Rs Int32}(hF : FX G cX1_sumOf 5 RX1 (Option.some Jvm.ClassFile.FieldType.int) "sumOf" 1 24) (hr10 : ∀ l0 l1 l2 l3 l4 M z, SK G F 5 eI 10 [some (va_rf l0), some (.int l1), some (.int l2), some (.int l3), some (.int l4)] [] M z (r10 l0 l1 l2 l3 l4 M z)) (l0 : Option Nat) (l1 : Int32) (l2 : Int32) (l4 : Int32) (s0 : Int32) (s1 : Int32) (M : Mp) (z : Nat) : SK G F 5 eI 59 [some (va_rf l0), some (.int l1), some (.int l2), none, some (.int l4)] [.int s1, .int s0] M z (fX1_sumOf_J59 r10 l0 l1 l2 l4 s0 s1 M z) := by
  unfold fX1_sumOf_J59
  refine s_iadd (pc := 59) hF dX1_sumOf_59 ?_
  refine s_istore_n (L9 := [some (va_rf l0), some (.int l1), some (.int l2), some (.int (s0 + s1)), some (.int l4)]) (pc := 60) hF dX1_sumOf_60 rfl (Nat.le_of_ble_eq_true rfl) rfl ?_
  refine s_iinc (v := l4 + 1) (L9 := [some (va_rf l0), some (.int l1), some (.int l2), some (.int (s0 + s1)), some (.int (l4 + 1))]) (pc := 61) hF dX1_sumOf_61 rfl rfl (Nat.le_of_ble_eq_true rfl) rfl ?_
  refine s_goto (pc := 64) hF 10 dX1_sumOf_64 rfl ?_
  exact SK.sb (hr10 l0 l1 l2 (s0 + s1) (l4 + 1) M z) ⟨rfl, ⟨rfl, ⟨rfl, ⟨rfl, ⟨rfl, trivial⟩⟩⟩⟩⟩

def fX1_sumOf_L10 : Nat → Option Nat → Int32 → Int32 → Int32 → Int32 → Mp → Nat → Rs Int32
  | 0, _, _, _, _, _, _, _ => none
  | fu + 1, l0, l1, l2, l3, l4, M, z => (gr M l0 [1] 29).bind fun v1 =>
(ai M 0 v1 (l1 + (1 : Int32))).bind fun v2 =>
if l4 < v2 then
  (if l2 = 0 then
  ((gr M l0 [1] 19).bind fun v3 =>
(gr M l0 [1] 22).bind fun v4 =>
(gr M l0 [1] 31).bind fun v5 =>
(ai M 0 v5 l4).bind fun v6 =>
(ai M 0 v4 v6).bind fun v7 =>
(ai M 0 v3 v7).bind fun v8 =>
fX1_sumOf_J59 (fX1_sumOf_L10 fu) l0 l1 l2 l4 l3 v8 M z)
else
  ((gr M l0 [1] 31).bind fun v9 =>
(ai M 0 v9 l4).bind fun v10 =>
if ckc M l0 [1] = true then
  (cb (fX1_wordsIn l0 v10 M z) z fun v11 M12 z13 =>
fX1_sumOf_J59 (fX1_sumOf_L10 fu) l0 l1 l2 l4 l3 v11 M12 z13)
else none))
else
  (some (l3, M, 0, 0))

theorem gX1_sumOf_L10 {G : Cx} {F : Option Value × Mp × Nat} (hF : FX G cX1_sumOf 5 RX1 (Option.some Jvm.ClassFile.FieldType.int) "sumOf" 1 24) : ∀ (fu : Nat) (l0 : Option Nat) (l1 : Int32) (l2 : Int32) (l3 : Int32) (l4 : Int32) (M : Mp) (z : Nat), SK G F 5 eI 10 [some (va_rf l0), some (.int l1), some (.int l2), some (.int l3), some (.int l4)] [] M z (fX1_sumOf_L10 fu l0 l1 l2 l3 l4 M z) := by
  intro fu
  induction fu with
  | zero => intros; exact SK.fail
  | succ fu ih =>
    intro l0 l1 l2 l3 l4 M z
    rw [fX1_sumOf_L10]
    refine s_iload (pc := 10) hF dX1_sumOf_10 rfl ?_
    refine s_aload_n (pc := 12) hF dX1_sumOf_12 rfl rfl ?_
    refine s_getr (pc := 13) hF (fl_X1_86 hF) dX1_sumOf_13 (fun v1 => ?_)
    refine s_iload_n (pc := 16) hF dX1_sumOf_16 rfl rfl ?_
    refine s_iconst (pc := 17) hF dX1_sumOf_17 (1 : Int32) (by decide) ?_
    refine s_iadd (pc := 18) hF dX1_sumOf_18 ?_
    refine s_iald (pc := 19) hF dX1_sumOf_19 (fun v2 => ?_)
    refine s_icmp_ge (pc := 20) hF 67 dX1_sumOf_20 rfl ?_ ?_
    · refine s_iload_n (pc := 67) hF dX1_sumOf_67 rfl rfl ?_
      exact s_iret (pc := 68) hF dX1_sumOf_68
    · refine s_iload_n (pc := 23) hF dX1_sumOf_23 rfl rfl ?_
      refine s_iload_n (pc := 24) hF dX1_sumOf_24 rfl rfl ?_
      refine s_if_eq (pc := 25) hF 42 dX1_sumOf_25 rfl ?_ ?_
      · refine s_aload_n (pc := 42) hF dX1_sumOf_42 rfl rfl ?_
        refine s_getr (pc := 43) hF (fl_X1_61 hF) dX1_sumOf_43 (fun v3 => ?_)
        refine s_aload_n (pc := 46) hF dX1_sumOf_46 rfl rfl ?_
        refine s_getr (pc := 47) hF (fl_X1_67 hF) dX1_sumOf_47 (fun v4 => ?_)
        refine s_aload_n (pc := 50) hF dX1_sumOf_50 rfl rfl ?_
        refine s_getr (pc := 51) hF (fl_X1_92 hF) dX1_sumOf_51 (fun v5 => ?_)
        refine s_iload (pc := 54) hF dX1_sumOf_54 rfl ?_
        refine s_iald (pc := 56) hF dX1_sumOf_56 (fun v6 => ?_)
        refine s_iald (pc := 57) hF dX1_sumOf_57 (fun v7 => ?_)
        refine s_iald (pc := 58) hF dX1_sumOf_58 (fun v8 => ?_)
        exact SK.sb (gX1_sumOf_J59 hF ih l0 l1 l2 l4 l3 v8 M z) ⟨rfl, ⟨rfl, ⟨rfl, ⟨rfl, trivial⟩⟩⟩⟩
      · refine s_aload_n (pc := 28) hF dX1_sumOf_28 rfl rfl ?_
        refine s_aload_n (pc := 29) hF dX1_sumOf_29 rfl rfl ?_
        refine s_getr (pc := 30) hF (fl_X1_92 hF) dX1_sumOf_30 (fun v9 => ?_)
        refine s_iload (pc := 33) hF dX1_sumOf_33 rfl ?_
        refine s_iald (pc := 35) hF dX1_sumOf_35 (fun v10 => ?_)
        refine s_callV (pc := 36) (As := [.int v10]) (st := [.int l3]) (stf := fun r9 => .int r9 :: [.int l3]) hF (mX1_wordsIn l0 v10) cw_X1_wordsIn q1294 q1296 (List.forall_mem_cons.mpr ⟨⟨(RX1, TX1, 34), rfl, qs46⟩, fun _ h9 => absurd h9 List.not_mem_nil⟩) rfl ⟨Nat.le_of_ble_eq_true rfl, Nat.le_of_ble_eq_true rfl⟩ ⟨⟨rfl, trivial⟩, Nat.le_of_ble_eq_true rfl⟩ dX1_sumOf_36 rfl (fun _ => rfl) (fun v11 M12 z13 => ?_)
        refine s_goto (pc := 39) hF 59 dX1_sumOf_39 rfl ?_
        exact SK.sb (gX1_sumOf_J59 hF ih l0 l1 l2 l4 l3 v11 M12 z13) ⟨rfl, ⟨rfl, ⟨rfl, ⟨rfl, trivial⟩⟩⟩⟩
def fX1_sumOf (a0 : Option Nat) (a1 : Int32) (a2 : Int32) (M : Mp) (z : Nat) : Rs Int32 := (gr M a0 [1] 29).bind fun v1 =>
(ai M 0 v1 a1).bind fun v2 =>
fX1_sumOf_L10 FU a0 a1 a2 (0 : Int32) v2 M z
theorem gX1_sumOf {G : Cx} {F : Option Value × Mp × Nat} (hF : FX G cX1_sumOf 5 RX1 (Option.some Jvm.ClassFile.FieldType.int) "sumOf" 1 24) (a0 : Option Nat) (a1 : Int32) (a2 : Int32) (M : Mp) (z : Nat) : SK G F 5 eI 0 [some (va_rf a0), some (.int a1), some (.int a2), none, none] [] M z (fX1_sumOf a0 a1 a2 M z) := by
  unfold fX1_sumOf
  refine s_iconst (pc := 0) hF dX1_sumOf_0 (0 : Int32) (by decide) ?_
  refine s_istore_n (L9 := [some (va_rf a0), some (.int a1), some (.int a2), some (.int (0 : Int32)), none]) (pc := 1) hF dX1_sumOf_1 rfl (Nat.le_of_ble_eq_true rfl) rfl ?_
  refine s_aload_n (pc := 2) hF dX1_sumOf_2 rfl rfl ?_
  refine s_getr (pc := 3) hF (fl_X1_86 hF) dX1_sumOf_3 (fun v1 => ?_)
  refine s_iload_n (pc := 6) hF dX1_sumOf_6 rfl rfl ?_
  refine s_iald (pc := 7) hF dX1_sumOf_7 (fun v2 => ?_)
  refine s_istore (L9 := [some (va_rf a0), some (.int a1), some (.int a2), some (.int (0 : Int32)), some (.int v2)]) (pc := 8) hF dX1_sumOf_8 (Nat.le_of_ble_eq_true rfl) rfl ?_
  exact SK.sb (gX1_sumOf_L10 hF FU a0 a1 a2 (0 : Int32) v2 M z) ⟨rfl, ⟨rfl, ⟨rfl, ⟨rfl, ⟨rfl, trivial⟩⟩⟩⟩⟩
theorem mX1_sumOf (a0 : Option Nat) (a1 : Int32) (a2 : Int32) : MT yX1_sumOf cX1_sumOf 5 (Option.some Jvm.ClassFile.FieldType.int) 1 24 eI [va_rf a0, .int a1, .int a2] (fX1_sumOf a0 a1 a2) :=
  MT.of (L0 := [some (va_rf a0), some (.int a1), some (.int a2), none, none]) (by decide) ⟨ct _, ⟨rfl, ⟨rfl, trivial⟩⟩⟩ (Nat.le_of_ble_eq_true rfl) rfl (fun _ _ hF M z => gX1_sumOf hF a0 a1 a2 M z)

def fX1_pagesOf_J62 (r4 : Option Nat → Int32 → Int32 → Int32 → Mp → Nat → Rs Int32) (l0 : Option Nat) (l1 : Int32) (l3 : Int32) (s0 : Int32) (s1 : Int32) (M : Mp) (z : Nat) : Rs Int32 := r4 l0 l1 (s0 ||| s1) (l3 + 1) M z

theorem gX1_pagesOf_J62 {G : Cx} {F : Option Value × Mp × Nat}  {r4 : Option Nat → Int32 → Int32 → Int32 → Mp → Nat → Rs Int32}(hF : FX G cX1_pagesOf 5 RX1 (Option.some Jvm.ClassFile.FieldType.int) "pagesOf" 0 0) (hr4 : ∀ l0 l1 l2 l3 M z, SK G F 5 eI 4 [some (va_rf l0), some (.int l1), some (.int l2), some (.int l3), none] [] M z (r4 l0 l1 l2 l3 M z)) (l0 : Option Nat) (l1 : Int32) (l3 : Int32) (s0 : Int32) (s1 : Int32) (M : Mp) (z : Nat) : SK G F 5 eI 62 [some (va_rf l0), some (.int l1), none, some (.int l3), none] [.int s1, .int s0] M z (fX1_pagesOf_J62 r4 l0 l1 l3 s0 s1 M z) := by
  unfold fX1_pagesOf_J62
  refine s_ior (pc := 62) hF dX1_pagesOf_62 ?_
  refine s_istore_n (L9 := [some (va_rf l0), some (.int l1), some (.int (s0 ||| s1)), some (.int l3), none]) (pc := 63) hF dX1_pagesOf_63 rfl (Nat.le_of_ble_eq_true rfl) rfl ?_
  refine s_iinc (v := l3 + 1) (L9 := [some (va_rf l0), some (.int l1), some (.int (s0 ||| s1)), some (.int (l3 + 1)), none]) (pc := 64) hF dX1_pagesOf_64 rfl rfl (Nat.le_of_ble_eq_true rfl) rfl ?_
  refine s_goto (pc := 67) hF 4 dX1_pagesOf_67 rfl ?_
  exact SK.sb (hr4 l0 l1 (s0 ||| s1) (l3 + 1) M z) ⟨rfl, ⟨rfl, ⟨rfl, ⟨rfl, trivial⟩⟩⟩⟩

def fX1_pagesOf_J42 (r4 : Option Nat → Int32 → Int32 → Int32 → Mp → Nat → Rs Int32) (l0 : Option Nat) (l1 : Int32) (l2 : Int32) (l3 : Int32) (s0 : Int32) (M : Mp) (z : Nat) : Rs Int32 := if s0 = 0 then
  (fX1_pagesOf_J62 r4 l0 l1 l3 l2 (0 : Int32) M z)
else
  ((gr M l0 [1] 1).bind fun v1 =>
(ai M 0 v1 l3).bind fun v2 =>
fX1_pagesOf_J62 r4 l0 l1 l3 l2 ((1 : Int32) <<< (v2 &&& 31)) M z)

theorem gX1_pagesOf_J42 {G : Cx} {F : Option Value × Mp × Nat}  {r4 : Option Nat → Int32 → Int32 → Int32 → Mp → Nat → Rs Int32}(hF : FX G cX1_pagesOf 5 RX1 (Option.some Jvm.ClassFile.FieldType.int) "pagesOf" 0 0) (hr4 : ∀ l0 l1 l2 l3 M z, SK G F 5 eI 4 [some (va_rf l0), some (.int l1), some (.int l2), some (.int l3), none] [] M z (r4 l0 l1 l2 l3 M z)) (l0 : Option Nat) (l1 : Int32) (l2 : Int32) (l3 : Int32) (s0 : Int32) (M : Mp) (z : Nat) : SK G F 5 eI 42 [some (va_rf l0), some (.int l1), some (.int l2), some (.int l3), none] [.int s0] M z (fX1_pagesOf_J42 r4 l0 l1 l2 l3 s0 M z) := by
  unfold fX1_pagesOf_J42
  refine s_istore (L9 := [some (va_rf l0), some (.int l1), some (.int l2), some (.int l3), some (.int s0)]) (pc := 42) hF dX1_pagesOf_42 (Nat.le_of_ble_eq_true rfl) rfl ?_
  refine s_iload_n (pc := 44) hF dX1_pagesOf_44 rfl rfl ?_
  refine s_iload (pc := 45) hF dX1_pagesOf_45 rfl ?_
  refine s_if_eq (pc := 47) hF 61 dX1_pagesOf_47 rfl ?_ ?_
  · refine s_iconst (pc := 61) hF dX1_pagesOf_61 (0 : Int32) (by decide) ?_
    exact SK.sb (gX1_pagesOf_J62 hF hr4 l0 l1 l3 l2 (0 : Int32) M z) ⟨rfl, ⟨rfl, ⟨rfl, trivial⟩⟩⟩
  · refine s_iconst (pc := 50) hF dX1_pagesOf_50 (1 : Int32) (by decide) ?_
    refine s_aload_n (pc := 51) hF dX1_pagesOf_51 rfl rfl ?_
    refine s_getr (pc := 52) hF (fl_X1_7 hF) dX1_pagesOf_52 (fun v1 => ?_)
    refine s_iload_n (pc := 55) hF dX1_pagesOf_55 rfl rfl ?_
    refine s_iald (pc := 56) hF dX1_pagesOf_56 (fun v2 => ?_)
    refine s_ishl (pc := 57) hF dX1_pagesOf_57 ?_
    refine s_goto (pc := 58) hF 62 dX1_pagesOf_58 rfl ?_
    exact SK.sb (gX1_pagesOf_J62 hF hr4 l0 l1 l3 l2 ((1 : Int32) <<< (v2 &&& 31)) M z) ⟨rfl, ⟨rfl, ⟨rfl, trivial⟩⟩⟩

def fX1_pagesOf_L4 : Nat → Option Nat → Int32 → Int32 → Int32 → Mp → Nat → Rs Int32
  | 0, _, _, _, _, _, _ => none
  | fu + 1, l0, l1, l2, l3, M, z => (gi M l0 [1] 0).bind fun v1 =>
if l3 < v1 then
  ((gr M l0 [1] 2).bind fun v2 =>
(ai M 0 v2 l3).bind fun v3 =>
if v3 = (2 : Int32) then
  (fX1_pagesOf_J42 (fX1_pagesOf_L4 fu) l0 l1 l2 l3 (0 : Int32) M z)
else
  ((gr M l0 [1] 32).bind fun v4 =>
(gr M l0 [1] 23).bind fun v5 =>
(ai M 0 v5 l3).bind fun v6 =>
(ai M 0 v4 v6).bind fun v7 =>
if v7 = l1 then
  (fX1_pagesOf_J42 (fX1_pagesOf_L4 fu) l0 l1 l2 l3 (1 : Int32) M z)
else
  (fX1_pagesOf_J42 (fX1_pagesOf_L4 fu) l0 l1 l2 l3 (0 : Int32) M z)))
else
  (some (l2, M, 0, 0))

theorem gX1_pagesOf_L4 {G : Cx} {F : Option Value × Mp × Nat} (hF : FX G cX1_pagesOf 5 RX1 (Option.some Jvm.ClassFile.FieldType.int) "pagesOf" 0 0) : ∀ (fu : Nat) (l0 : Option Nat) (l1 : Int32) (l2 : Int32) (l3 : Int32) (M : Mp) (z : Nat), SK G F 5 eI 4 [some (va_rf l0), some (.int l1), some (.int l2), some (.int l3), none] [] M z (fX1_pagesOf_L4 fu l0 l1 l2 l3 M z) := by
  intro fu
  induction fu with
  | zero => intros; exact SK.fail
  | succ fu ih =>
    intro l0 l1 l2 l3 M z
    rw [fX1_pagesOf_L4]
    refine s_iload_n (pc := 4) hF dX1_pagesOf_4 rfl rfl ?_
    refine s_aload_n (pc := 5) hF dX1_pagesOf_5 rfl rfl ?_
    refine s_geti (pc := 6) hF (fl_X1_98 hF) dX1_pagesOf_6 (fun v1 => ?_)
    refine s_icmp_ge (pc := 9) hF 70 dX1_pagesOf_9 rfl ?_ ?_
    · refine s_iload_n (pc := 70) hF dX1_pagesOf_70 rfl rfl ?_
      exact s_iret (pc := 71) hF dX1_pagesOf_71
    · refine s_aload_n (pc := 12) hF dX1_pagesOf_12 rfl rfl ?_
      refine s_getr (pc := 13) hF (fl_X1_13 hF) dX1_pagesOf_13 (fun v2 => ?_)
      refine s_iload_n (pc := 16) hF dX1_pagesOf_16 rfl rfl ?_
      refine s_iald (pc := 17) hF dX1_pagesOf_17 (fun v3 => ?_)
      refine s_iconst (pc := 18) hF dX1_pagesOf_18 (2 : Int32) (by decide) ?_
      refine s_icmp_eq (pc := 19) hF 41 dX1_pagesOf_19 rfl ?_ ?_
      · refine s_iconst (pc := 41) hF dX1_pagesOf_41 (0 : Int32) (by decide) ?_
        exact SK.sb (gX1_pagesOf_J42 hF ih l0 l1 l2 l3 (0 : Int32) M z) ⟨rfl, ⟨rfl, ⟨rfl, ⟨rfl, trivial⟩⟩⟩⟩
      · refine s_aload_n (pc := 22) hF dX1_pagesOf_22 rfl rfl ?_
        refine s_getr (pc := 23) hF (fl_X1_95 hF) dX1_pagesOf_23 (fun v4 => ?_)
        refine s_aload_n (pc := 26) hF dX1_pagesOf_26 rfl rfl ?_
        refine s_getr (pc := 27) hF (fl_X1_70 hF) dX1_pagesOf_27 (fun v5 => ?_)
        refine s_iload_n (pc := 30) hF dX1_pagesOf_30 rfl rfl ?_
        refine s_iald (pc := 31) hF dX1_pagesOf_31 (fun v6 => ?_)
        refine s_iald (pc := 32) hF dX1_pagesOf_32 (fun v7 => ?_)
        refine s_iload_n (pc := 33) hF dX1_pagesOf_33 rfl rfl ?_
        refine s_icmp_ne (pc := 34) hF 41 dX1_pagesOf_34 rfl ?_ ?_
        · refine s_iconst (pc := 41) hF dX1_pagesOf_41 (0 : Int32) (by decide) ?_
          exact SK.sb (gX1_pagesOf_J42 hF ih l0 l1 l2 l3 (0 : Int32) M z) ⟨rfl, ⟨rfl, ⟨rfl, ⟨rfl, trivial⟩⟩⟩⟩
        · refine s_iconst (pc := 37) hF dX1_pagesOf_37 (1 : Int32) (by decide) ?_
          refine s_goto (pc := 38) hF 42 dX1_pagesOf_38 rfl ?_
          exact SK.sb (gX1_pagesOf_J42 hF ih l0 l1 l2 l3 (1 : Int32) M z) ⟨rfl, ⟨rfl, ⟨rfl, ⟨rfl, trivial⟩⟩⟩⟩
def fX1_pagesOf (a0 : Option Nat) (a1 : Int32) (M : Mp) (z : Nat) : Rs Int32 := fX1_pagesOf_L4 FU a0 a1 (0 : Int32) (0 : Int32) M z
theorem gX1_pagesOf {G : Cx} {F : Option Value × Mp × Nat} (hF : FX G cX1_pagesOf 5 RX1 (Option.some Jvm.ClassFile.FieldType.int) "pagesOf" 0 0) (a0 : Option Nat) (a1 : Int32) (M : Mp) (z : Nat) : SK G F 5 eI 0 [some (va_rf a0), some (.int a1), none, none, none] [] M z (fX1_pagesOf a0 a1 M z) := by
  unfold fX1_pagesOf
  refine s_iconst (pc := 0) hF dX1_pagesOf_0 (0 : Int32) (by decide) ?_
  refine s_istore_n (L9 := [some (va_rf a0), some (.int a1), some (.int (0 : Int32)), none, none]) (pc := 1) hF dX1_pagesOf_1 rfl (Nat.le_of_ble_eq_true rfl) rfl ?_
  refine s_iconst (pc := 2) hF dX1_pagesOf_2 (0 : Int32) (by decide) ?_
  refine s_istore_n (L9 := [some (va_rf a0), some (.int a1), some (.int (0 : Int32)), some (.int (0 : Int32)), none]) (pc := 3) hF dX1_pagesOf_3 rfl (Nat.le_of_ble_eq_true rfl) rfl ?_
  exact SK.sb (gX1_pagesOf_L4 hF FU a0 a1 (0 : Int32) (0 : Int32) M z) ⟨rfl, ⟨rfl, ⟨rfl, ⟨rfl, trivial⟩⟩⟩⟩
theorem mX1_pagesOf (a0 : Option Nat) (a1 : Int32) : MT yX1_pagesOf cX1_pagesOf 5 (Option.some Jvm.ClassFile.FieldType.int) 0 0 eI [va_rf a0, .int a1] (fX1_pagesOf a0 a1) :=
  MT.of (L0 := [some (va_rf a0), some (.int a1), none, none, none]) (by decide) ⟨ct _, ⟨rfl, trivial⟩⟩ (Nat.le_of_ble_eq_true rfl) rfl (fun _ _ hF M z => gX1_pagesOf hF a0 a1 M z)

theorem cw_X1_sumOf : CWm yX1_sumOf cX1_sumOf 5 (Option.some Jvm.ClassFile.FieldType.int) 2 := ⟨q1321, q63, by decide +kernel, by decide +kernel, by decide +kernel⟩
theorem cw_X1_pagesOf : CWm yX1_pagesOf cX1_pagesOf 5 (Option.some Jvm.ClassFile.FieldType.int) 1 := ⟨q1325, q63, by decide +kernel, by decide +kernel, by decide +kernel⟩
theorem cw_X1_isArticle : CWm yX1_isArticle cX1_isArticle 2 (Option.some Jvm.ClassFile.FieldType.boolean) 1 := ⟨q1317, q63, by decide +kernel, by decide +kernel, by decide +kernel⟩
def fX1_ofArticle (a0 : Option Nat) (a1 : Int32) (a2 : Int32) (M : Mp) (z : Nat) : Rs Int32 := if ckc M a0 [1] = true then
  (cb (fX1_isArticle a0 a1 M z) z fun v1 M2 z3 =>
if v1 = 0 then
  (some ((-1 : Int32), M2, 0, 0))
else
  (if a2 = 0 then
  ((gr M2 a0 [1] 31).bind fun v4 =>
(gr M2 a0 [1] 29).bind fun v5 =>
(ai M2 0 v5 a1).bind fun v6 =>
(ai M2 0 v4 v6).bind fun v7 =>
some (v7, M2, 0, 0))
else if a2 = 1 then
  ((gr M2 a0 [1] 29).bind fun v8 =>
(ai M2 0 v8 (a1 + (1 : Int32))).bind fun v9 =>
(gr M2 a0 [1] 29).bind fun v10 =>
(ai M2 0 v10 a1).bind fun v11 =>
some ((v9 - v11), M2, 0, 0))
else if a2 = 2 then
  (if ckc M2 a0 [1] = true then
  (cb (fX1_sumOf a0 a1 (0 : Int32) M2 z3) z3 fun v12 M13 z14 =>
some (v12, M13, 0, 0))
else none)
else if a2 = 3 then
  (if ckc M2 a0 [1] = true then
  (cb (fX1_sumOf a0 a1 (1 : Int32) M2 z3) z3 fun v15 M16 z17 =>
some (v15, M16, 0, 0))
else none)
else if a2 = 4 then
  (if ckc M2 a0 [1] = true then
  (cb (fX1_pagesOf a0 a1 M2 z3) z3 fun v18 M19 z20 =>
some (v18, M19, 0, 0))
else none)
else if a2 = 5 then
  ((gr M2 a0 [1] 30).bind fun v21 =>
(ai M2 1 v21 a1).bind fun v22 =>
if v22 = 0 then
  (some ((0 : Int32), M2, 0, 0))
else
  (some ((1 : Int32), M2, 0, 0)))
else if a2 = 6 then
  ((gr M2 a0 [1] 31).bind fun v23 =>
(gr M2 a0 [1] 29).bind fun v24 =>
(ai M2 0 v24 (a1 + (1 : Int32))).bind fun v25 =>
(ai M2 0 v23 (v25 - (1 : Int32))).bind fun v26 =>
if ckc M2 a0 [1] = true then
  (cb (fX1_isBroken a0 v26 M2 z3) z3 fun v27 M28 z29 =>
if v27 = 0 then
  (some ((0 : Int32), M28, 0, 0))
else
  (some ((1 : Int32), M28, 0, 0)))
else none)
else 
  (some ((-2 : Int32), M2, 0, 0))))
else none
theorem gX1_ofArticle {G : Cx} {F : Option Value × Mp × Nat} (hF : FX G cX1_ofArticle 3 RX1 (Option.some Jvm.ClassFile.FieldType.int) "ofArticle" 7 163) (a0 : Option Nat) (a1 : Int32) (a2 : Int32) (M : Mp) (z : Nat) : SK G F 3 eI 0 [some (va_rf a0), some (.int a1), some (.int a2)] [] M z (fX1_ofArticle a0 a1 a2 M z) := by
  unfold fX1_ofArticle
  refine s_aload_n (pc := 0) hF dX1_ofArticle_0 rfl rfl ?_
  refine s_iload_n (pc := 1) hF dX1_ofArticle_1 rfl rfl ?_
  refine s_callV (pc := 2) (As := [.int a1]) (st := []) (stf := fun r9 => .int r9 :: []) hF (mX1_isArticle a0 a1) cw_X1_isArticle q1314 q1316 (List.forall_mem_cons.mpr ⟨⟨(RX1, TX1, 34), rfl, qs49⟩, fun _ h9 => absurd h9 List.not_mem_nil⟩) rfl ⟨Nat.le_of_ble_eq_true rfl, Nat.le_of_ble_eq_true rfl⟩ ⟨trivial, Nat.le_of_ble_eq_true rfl⟩ dX1_ofArticle_2 rfl (fun _ => rfl) (fun v1 M2 z3 => ?_)
  refine s_if_ne (pc := 5) hF 10 dX1_ofArticle_5 rfl ?_ ?_
  · refine s_iload_n (pc := 10) hF dX1_ofArticle_10 rfl rfl ?_
    refine s_case (v := 0) (pc := 11) hF 52 dX1_ofArticle_11 (by decide) rfl rfl ?_ (fun h9_0 => ?_)
    · refine s_aload_n (pc := 52) hF dX1_ofArticle_52 rfl rfl ?_
      refine s_getr (pc := 53) hF (fl_X1_92 hF) dX1_ofArticle_53 (fun v4 => ?_)
      refine s_aload_n (pc := 56) hF dX1_ofArticle_56 rfl rfl ?_
      refine s_getr (pc := 57) hF (fl_X1_86 hF) dX1_ofArticle_57 (fun v5 => ?_)
      refine s_iload_n (pc := 60) hF dX1_ofArticle_60 rfl rfl ?_
      refine s_iald (pc := 61) hF dX1_ofArticle_61 (fun v6 => ?_)
      refine s_iald (pc := 62) hF dX1_ofArticle_62 (fun v7 => ?_)
      exact s_iret (pc := 63) hF dX1_ofArticle_63
    refine s_case (v := 1) (pc := 11) hF 64 dX1_ofArticle_11 (by decide) rfl rfl ?_ (fun h9_1 => ?_)
    · refine s_aload_n (pc := 64) hF dX1_ofArticle_64 rfl rfl ?_
      refine s_getr (pc := 65) hF (fl_X1_86 hF) dX1_ofArticle_65 (fun v8 => ?_)
      refine s_iload_n (pc := 68) hF dX1_ofArticle_68 rfl rfl ?_
      refine s_iconst (pc := 69) hF dX1_ofArticle_69 (1 : Int32) (by decide) ?_
      refine s_iadd (pc := 70) hF dX1_ofArticle_70 ?_
      refine s_iald (pc := 71) hF dX1_ofArticle_71 (fun v9 => ?_)
      refine s_aload_n (pc := 72) hF dX1_ofArticle_72 rfl rfl ?_
      refine s_getr (pc := 73) hF (fl_X1_86 hF) dX1_ofArticle_73 (fun v10 => ?_)
      refine s_iload_n (pc := 76) hF dX1_ofArticle_76 rfl rfl ?_
      refine s_iald (pc := 77) hF dX1_ofArticle_77 (fun v11 => ?_)
      refine s_isub (pc := 78) hF dX1_ofArticle_78 ?_
      exact s_iret (pc := 79) hF dX1_ofArticle_79
    refine s_case (v := 2) (pc := 11) hF 80 dX1_ofArticle_11 (by decide) rfl rfl ?_ (fun h9_2 => ?_)
    · refine s_aload_n (pc := 80) hF dX1_ofArticle_80 rfl rfl ?_
      refine s_iload_n (pc := 81) hF dX1_ofArticle_81 rfl rfl ?_
      refine s_iconst (pc := 82) hF dX1_ofArticle_82 (0 : Int32) (by decide) ?_
      refine s_callV (pc := 83) (As := [.int a1, .int (0 : Int32)]) (st := []) (stf := fun r9 => .int r9 :: []) hF (mX1_sumOf a0 a1 (0 : Int32)) cw_X1_sumOf q1318 q1320 (List.forall_mem_cons.mpr ⟨⟨(RX1, TX1, 34), rfl, qs50⟩, fun _ h9 => absurd h9 List.not_mem_nil⟩) rfl ⟨Nat.le_of_ble_eq_true rfl, Nat.le_of_ble_eq_true rfl⟩ ⟨trivial, Nat.le_of_ble_eq_true rfl⟩ dX1_ofArticle_83 rfl (fun _ => rfl) (fun v12 M13 z14 => ?_)
      exact s_iret (pc := 86) hF dX1_ofArticle_86
    refine s_case (v := 3) (pc := 11) hF 87 dX1_ofArticle_11 (by decide) rfl rfl ?_ (fun h9_3 => ?_)
    · refine s_aload_n (pc := 87) hF dX1_ofArticle_87 rfl rfl ?_
      refine s_iload_n (pc := 88) hF dX1_ofArticle_88 rfl rfl ?_
      refine s_iconst (pc := 89) hF dX1_ofArticle_89 (1 : Int32) (by decide) ?_
      refine s_callV (pc := 90) (As := [.int a1, .int (1 : Int32)]) (st := []) (stf := fun r9 => .int r9 :: []) hF (mX1_sumOf a0 a1 (1 : Int32)) cw_X1_sumOf q1318 q1320 (List.forall_mem_cons.mpr ⟨⟨(RX1, TX1, 34), rfl, qs50⟩, fun _ h9 => absurd h9 List.not_mem_nil⟩) rfl ⟨Nat.le_of_ble_eq_true rfl, Nat.le_of_ble_eq_true rfl⟩ ⟨trivial, Nat.le_of_ble_eq_true rfl⟩ dX1_ofArticle_90 rfl (fun _ => rfl) (fun v15 M16 z17 => ?_)
      exact s_iret (pc := 93) hF dX1_ofArticle_93
    refine s_case (v := 4) (pc := 11) hF 94 dX1_ofArticle_11 (by decide) rfl rfl ?_ (fun h9_4 => ?_)
    · refine s_aload_n (pc := 94) hF dX1_ofArticle_94 rfl rfl ?_
      refine s_iload_n (pc := 95) hF dX1_ofArticle_95 rfl rfl ?_
      refine s_callV (pc := 96) (As := [.int a1]) (st := []) (stf := fun r9 => .int r9 :: []) hF (mX1_pagesOf a0 a1) cw_X1_pagesOf q1322 q1324 (List.forall_mem_cons.mpr ⟨⟨(RX1, TX1, 34), rfl, qs51⟩, fun _ h9 => absurd h9 List.not_mem_nil⟩) rfl ⟨Nat.le_of_ble_eq_true rfl, Nat.le_of_ble_eq_true rfl⟩ ⟨trivial, Nat.le_of_ble_eq_true rfl⟩ dX1_ofArticle_96 rfl (fun _ => rfl) (fun v18 M19 z20 => ?_)
      exact s_iret (pc := 99) hF dX1_ofArticle_99
    refine s_case (v := 5) (pc := 11) hF 100 dX1_ofArticle_11 (by decide) rfl rfl ?_ (fun h9_5 => ?_)
    · refine s_aload_n (pc := 100) hF dX1_ofArticle_100 rfl rfl ?_
      refine s_getr (pc := 101) hF (fl_X1_89 hF) dX1_ofArticle_101 (fun v21 => ?_)
      refine s_iload_n (pc := 104) hF dX1_ofArticle_104 rfl rfl ?_
      refine s_zald (pc := 105) hF dX1_ofArticle_105 (fun v22 => ?_)
      refine s_if_eq (pc := 106) hF 113 dX1_ofArticle_106 rfl ?_ ?_
      · refine s_iconst (pc := 113) hF dX1_ofArticle_113 (0 : Int32) (by decide) ?_
        exact s_iret (pc := 114) hF dX1_ofArticle_114
      · refine s_iconst (pc := 109) hF dX1_ofArticle_109 (1 : Int32) (by decide) ?_
        refine s_goto (pc := 110) hF 114 dX1_ofArticle_110 rfl ?_
        exact s_iret (pc := 114) hF dX1_ofArticle_114
    refine s_case (v := 6) (pc := 11) hF 115 dX1_ofArticle_11 (by decide) rfl rfl ?_ (fun h9_6 => ?_)
    · refine s_aload_n (pc := 115) hF dX1_ofArticle_115 rfl rfl ?_
      refine s_aload_n (pc := 116) hF dX1_ofArticle_116 rfl rfl ?_
      refine s_getr (pc := 117) hF (fl_X1_92 hF) dX1_ofArticle_117 (fun v23 => ?_)
      refine s_aload_n (pc := 120) hF dX1_ofArticle_120 rfl rfl ?_
      refine s_getr (pc := 121) hF (fl_X1_86 hF) dX1_ofArticle_121 (fun v24 => ?_)
      refine s_iload_n (pc := 124) hF dX1_ofArticle_124 rfl rfl ?_
      refine s_iconst (pc := 125) hF dX1_ofArticle_125 (1 : Int32) (by decide) ?_
      refine s_iadd (pc := 126) hF dX1_ofArticle_126 ?_
      refine s_iald (pc := 127) hF dX1_ofArticle_127 (fun v25 => ?_)
      refine s_iconst (pc := 128) hF dX1_ofArticle_128 (1 : Int32) (by decide) ?_
      refine s_isub (pc := 129) hF dX1_ofArticle_129 ?_
      refine s_iald (pc := 130) hF dX1_ofArticle_130 (fun v26 => ?_)
      refine s_callV (pc := 131) (As := [.int v26]) (st := []) (stf := fun r9 => .int r9 :: []) hF (mX1_isBroken a0 v26) cw_X1_isBroken q1302 q1304 (List.forall_mem_cons.mpr ⟨⟨(RX1, TX1, 34), rfl, qs48⟩, fun _ h9 => absurd h9 List.not_mem_nil⟩) rfl ⟨Nat.le_of_ble_eq_true rfl, Nat.le_of_ble_eq_true rfl⟩ ⟨trivial, Nat.le_of_ble_eq_true rfl⟩ dX1_ofArticle_131 rfl (fun _ => rfl) (fun v27 M28 z29 => ?_)
      refine s_if_eq (pc := 134) hF 141 dX1_ofArticle_134 rfl ?_ ?_
      · refine s_iconst (pc := 141) hF dX1_ofArticle_141 (0 : Int32) (by decide) ?_
        exact s_iret (pc := 142) hF dX1_ofArticle_142
      · refine s_iconst (pc := 137) hF dX1_ofArticle_137 (1 : Int32) (by decide) ?_
        refine s_goto (pc := 138) hF 142 dX1_ofArticle_138 rfl ?_
        exact s_iret (pc := 142) hF dX1_ofArticle_142
    refine s_dflt (pc := 11) hF 143 dX1_ofArticle_11 (by
    have := lv_neT (a := 0) h9_0 rfl
    have := lv_neT (a := 1) h9_1 rfl
    have := lv_neT (a := 2) h9_2 rfl
    have := lv_neT (a := 3) h9_3 rfl
    have := lv_neT (a := 4) h9_4 rfl
    have := lv_neT (a := 5) h9_5 rfl
    have := lv_neT (a := 6) h9_6 rfl
    omega) rfl ?_
    refine s_bipush (pc := 143) hF dX1_ofArticle_143 (-2 : Int32) (by decide) ?_
    exact s_iret (pc := 145) hF dX1_ofArticle_145
  · refine s_iconst (pc := 8) hF dX1_ofArticle_8 (-1 : Int32) (by decide) ?_
    exact s_iret (pc := 9) hF dX1_ofArticle_9
theorem mX1_ofArticle (a0 : Option Nat) (a1 : Int32) (a2 : Int32) : MT yX1_ofArticle cX1_ofArticle 3 (Option.some Jvm.ClassFile.FieldType.int) 7 163 eI [va_rf a0, .int a1, .int a2] (fX1_ofArticle a0 a1 a2) :=
  MT.of (L0 := [some (va_rf a0), some (.int a1), some (.int a2)]) (by decide) ⟨ct _, ⟨rfl, ⟨rfl, trivial⟩⟩⟩ (Nat.le_of_ble_eq_true rfl) rfl (fun _ _ hF M z => gX1_ofArticle hF a0 a1 a2 M z)

def fX1_read_J75 (r33 : Option Nat → Int32 → Int32 → Int32 → Mp → Nat → Rs Int32) (l0 : Option Nat) (l1 : Int32) (l3 : Int32) (l4 : Int32) (l5 : Int32) (s0 : Int32) (M : Mp) (z : Nat) : Rs Int32 := if l3 < s0 then
  (some (l5, M, 0, 0))
else
  ((gr M l0 [1] 19).bind fun v1 =>
(ai M 0 v1 l5).bind fun v2 =>
if (l3 - s0) < v2 then
  ((gr M l0 [1] 20).bind fun v5 =>
(ai M 0 v5 (((24 : Int32) * l5) + (l3 - s0))).bind fun v6 =>
some (v6, M, 0, 0))
else
  ((gr M l0 [1] 19).bind fun v3 =>
(ai M 0 v3 l5).bind fun v4 =>
r33 l0 l1 ((l3 - s0) - v4) (l4 + 1) M z))

theorem gX1_read_J75 {G : Cx} {F : Option Value × Mp × Nat}  {r33 : Option Nat → Int32 → Int32 → Int32 → Mp → Nat → Rs Int32}(hF : FX G cX1_read 7 RX1 (Option.some Jvm.ClassFile.FieldType.int) "read" 7 163) (hr33 : ∀ l0 l1 l3 l4 M z, SK G F 7 eI 33 [some (va_rf l0), some (.int l1), none, some (.int l3), some (.int l4), none, none] [] M z (r33 l0 l1 l3 l4 M z)) (l0 : Option Nat) (l1 : Int32) (l3 : Int32) (l4 : Int32) (l5 : Int32) (s0 : Int32) (M : Mp) (z : Nat) : SK G F 7 eI 75 [some (va_rf l0), some (.int l1), none, some (.int l3), some (.int l4), some (.int l5), none] [.int s0] M z (fX1_read_J75 r33 l0 l1 l3 l4 l5 s0 M z) := by
  unfold fX1_read_J75
  refine s_istore (L9 := [some (va_rf l0), some (.int l1), none, some (.int l3), some (.int l4), some (.int l5), some (.int s0)]) (pc := 75) hF dX1_read_75 (Nat.le_of_ble_eq_true rfl) rfl ?_
  refine s_iload_n (pc := 77) hF dX1_read_77 rfl rfl ?_
  refine s_iload (pc := 78) hF dX1_read_78 rfl ?_
  refine s_icmp_ge (pc := 80) hF 86 dX1_read_80 rfl ?_ ?_
  · refine s_iload_n (pc := 86) hF dX1_read_86 rfl rfl ?_
    refine s_iload (pc := 87) hF dX1_read_87 rfl ?_
    refine s_isub (pc := 89) hF dX1_read_89 ?_
    refine s_istore_n (L9 := [some (va_rf l0), some (.int l1), none, some (.int (l3 - s0)), some (.int l4), some (.int l5), some (.int s0)]) (pc := 90) hF dX1_read_90 rfl (Nat.le_of_ble_eq_true rfl) rfl ?_
    refine s_iload_n (pc := 91) hF dX1_read_91 rfl rfl ?_
    refine s_aload_n (pc := 92) hF dX1_read_92 rfl rfl ?_
    refine s_getr (pc := 93) hF (fl_X1_61 hF) dX1_read_93 (fun v1 => ?_)
    refine s_iload (pc := 96) hF dX1_read_96 rfl ?_
    refine s_iald (pc := 98) hF dX1_read_98 (fun v2 => ?_)
    refine s_icmp_ge (pc := 99) hF 115 dX1_read_99 rfl ?_ ?_
    · refine s_iload_n (pc := 115) hF dX1_read_115 rfl rfl ?_
      refine s_aload_n (pc := 116) hF dX1_read_116 rfl rfl ?_
      refine s_getr (pc := 117) hF (fl_X1_61 hF) dX1_read_117 (fun v3 => ?_)
      refine s_iload (pc := 120) hF dX1_read_120 rfl ?_
      refine s_iald (pc := 122) hF dX1_read_122 (fun v4 => ?_)
      refine s_isub (pc := 123) hF dX1_read_123 ?_
      refine s_istore_n (L9 := [some (va_rf l0), some (.int l1), none, some (.int ((l3 - s0) - v4)), some (.int l4), some (.int l5), some (.int s0)]) (pc := 124) hF dX1_read_124 rfl (Nat.le_of_ble_eq_true rfl) rfl ?_
      refine s_iinc (v := l4 + 1) (L9 := [some (va_rf l0), some (.int l1), none, some (.int ((l3 - s0) - v4)), some (.int (l4 + 1)), some (.int l5), some (.int s0)]) (pc := 125) hF dX1_read_125 rfl rfl (Nat.le_of_ble_eq_true rfl) rfl ?_
      refine s_goto (pc := 128) hF 33 dX1_read_128 rfl ?_
      exact SK.sb (hr33 l0 l1 ((l3 - s0) - v4) (l4 + 1) M z) ⟨rfl, ⟨rfl, ⟨rfl, ⟨rfl, trivial⟩⟩⟩⟩
    · refine s_aload_n (pc := 102) hF dX1_read_102 rfl rfl ?_
      refine s_getr (pc := 103) hF (fl_X1_64 hF) dX1_read_103 (fun v5 => ?_)
      refine s_bipush (pc := 106) hF dX1_read_106 (24 : Int32) (by decide) ?_
      refine s_iload (pc := 108) hF dX1_read_108 rfl ?_
      refine s_imul (pc := 110) hF dX1_read_110 ?_
      refine s_iload_n (pc := 111) hF dX1_read_111 rfl rfl ?_
      refine s_iadd (pc := 112) hF dX1_read_112 ?_
      refine s_iald (pc := 113) hF dX1_read_113 (fun v6 => ?_)
      exact s_iret (pc := 114) hF dX1_read_114
  · refine s_iload (pc := 83) hF dX1_read_83 rfl ?_
    exact s_iret (pc := 85) hF dX1_read_85

def fX1_read_L33 : Nat → Option Nat → Int32 → Int32 → Int32 → Mp → Nat → Rs Int32
  | 0, _, _, _, _, _, _ => none
  | fu + 1, l0, l1, l3, l4, M, z => (gr M l0 [1] 29).bind fun v1 =>
(ai M 0 v1 (l1 + (1 : Int32))).bind fun v2 =>
if l4 < v2 then
  ((gr M l0 [1] 22).bind fun v3 =>
(gr M l0 [1] 31).bind fun v4 =>
(ai M 0 v4 l4).bind fun v5 =>
(ai M 0 v3 v5).bind fun v6 =>
(gr M l0 [1] 2).bind fun v7 =>
(ai M 0 v7 v6).bind fun v8 =>
if v8 = 0 then
  (fX1_read_J75 (fX1_read_L33 fu) l0 l1 l3 l4 v6 (1 : Int32) M z)
else
  (fX1_read_J75 (fX1_read_L33 fu) l0 l1 l3 l4 v6 (0 : Int32) M z))
else
  (some ((-9 : Int32), M, 0, 0))

theorem gX1_read_L33 {G : Cx} {F : Option Value × Mp × Nat} (hF : FX G cX1_read 7 RX1 (Option.some Jvm.ClassFile.FieldType.int) "read" 7 163) : ∀ (fu : Nat) (l0 : Option Nat) (l1 : Int32) (l3 : Int32) (l4 : Int32) (M : Mp) (z : Nat), SK G F 7 eI 33 [some (va_rf l0), some (.int l1), none, some (.int l3), some (.int l4), none, none] [] M z (fX1_read_L33 fu l0 l1 l3 l4 M z) := by
  intro fu
  induction fu with
  | zero => intros; exact SK.fail
  | succ fu ih =>
    intro l0 l1 l3 l4 M z
    rw [fX1_read_L33]
    refine s_iload (pc := 33) hF dX1_read_33 rfl ?_
    refine s_aload_n (pc := 35) hF dX1_read_35 rfl rfl ?_
    refine s_getr (pc := 36) hF (fl_X1_86 hF) dX1_read_36 (fun v1 => ?_)
    refine s_iload_n (pc := 39) hF dX1_read_39 rfl rfl ?_
    refine s_iconst (pc := 40) hF dX1_read_40 (1 : Int32) (by decide) ?_
    refine s_iadd (pc := 41) hF dX1_read_41 ?_
    refine s_iald (pc := 42) hF dX1_read_42 (fun v2 => ?_)
    refine s_icmp_ge (pc := 43) hF 131 dX1_read_43 rfl ?_ ?_
    · refine s_bipush (pc := 131) hF dX1_read_131 (-9 : Int32) (by decide) ?_
      exact s_iret (pc := 133) hF dX1_read_133
    · refine s_aload_n (pc := 46) hF dX1_read_46 rfl rfl ?_
      refine s_getr (pc := 47) hF (fl_X1_67 hF) dX1_read_47 (fun v3 => ?_)
      refine s_aload_n (pc := 50) hF dX1_read_50 rfl rfl ?_
      refine s_getr (pc := 51) hF (fl_X1_92 hF) dX1_read_51 (fun v4 => ?_)
      refine s_iload (pc := 54) hF dX1_read_54 rfl ?_
      refine s_iald (pc := 56) hF dX1_read_56 (fun v5 => ?_)
      refine s_iald (pc := 57) hF dX1_read_57 (fun v6 => ?_)
      refine s_istore (L9 := [some (va_rf l0), some (.int l1), none, some (.int l3), some (.int l4), some (.int v6), none]) (pc := 58) hF dX1_read_58 (Nat.le_of_ble_eq_true rfl) rfl ?_
      refine s_aload_n (pc := 60) hF dX1_read_60 rfl rfl ?_
      refine s_getr (pc := 61) hF (fl_X1_13 hF) dX1_read_61 (fun v7 => ?_)
      refine s_iload (pc := 64) hF dX1_read_64 rfl ?_
      refine s_iald (pc := 66) hF dX1_read_66 (fun v8 => ?_)
      refine s_if_ne (pc := 67) hF 74 dX1_read_67 rfl ?_ ?_
      · refine s_iconst (pc := 74) hF dX1_read_74 (0 : Int32) (by decide) ?_
        exact SK.sb (gX1_read_J75 hF ih l0 l1 l3 l4 v6 (0 : Int32) M z) ⟨rfl, ⟨rfl, ⟨rfl, ⟨rfl, ⟨rfl, trivial⟩⟩⟩⟩⟩
      · refine s_iconst (pc := 70) hF dX1_read_70 (1 : Int32) (by decide) ?_
        refine s_goto (pc := 71) hF 75 dX1_read_71 rfl ?_
        exact SK.sb (gX1_read_J75 hF ih l0 l1 l3 l4 v6 (1 : Int32) M z) ⟨rfl, ⟨rfl, ⟨rfl, ⟨rfl, ⟨rfl, trivial⟩⟩⟩⟩⟩
def fX1_read (a0 : Option Nat) (a1 : Int32) (a2 : Int32) (M : Mp) (z : Nat) : Rs Int32 := if ckc M a0 [1] = true then
  (cb (fX1_isArticle a0 a1 M z) z fun v1 M2 z3 =>
if v1 = 0 then
  (some ((-1 : Int32), M2, 0, 0))
else
  (cb (fX1_within a2 (0 : Int32) (23 : Int32) M2 z3) z3 fun v4 M5 z6 =>
if v4 = 0 then
  (some ((-2 : Int32), M5, 0, 0))
else
  ((gr M5 a0 [1] 29).bind fun v7 =>
(ai M5 0 v7 a1).bind fun v8 =>
fX1_read_L33 FU a0 a1 a2 v8 M5 z6)))
else none
theorem gX1_read {G : Cx} {F : Option Value × Mp × Nat} (hF : FX G cX1_read 7 RX1 (Option.some Jvm.ClassFile.FieldType.int) "read" 7 163) (a0 : Option Nat) (a1 : Int32) (a2 : Int32) (M : Mp) (z : Nat) : SK G F 7 eI 0 [some (va_rf a0), some (.int a1), some (.int a2), none, none, none, none] [] M z (fX1_read a0 a1 a2 M z) := by
  unfold fX1_read
  refine s_aload_n (pc := 0) hF dX1_read_0 rfl rfl ?_
  refine s_iload_n (pc := 1) hF dX1_read_1 rfl rfl ?_
  refine s_callV (pc := 2) (As := [.int a1]) (st := []) (stf := fun r9 => .int r9 :: []) hF (mX1_isArticle a0 a1) cw_X1_isArticle q1314 q1316 (List.forall_mem_cons.mpr ⟨⟨(RX1, TX1, 34), rfl, qs49⟩, fun _ h9 => absurd h9 List.not_mem_nil⟩) rfl ⟨Nat.le_of_ble_eq_true rfl, Nat.le_of_ble_eq_true rfl⟩ ⟨trivial, Nat.le_of_ble_eq_true rfl⟩ dX1_read_2 rfl (fun _ => rfl) (fun v1 M2 z3 => ?_)
  refine s_if_ne (pc := 5) hF 10 dX1_read_5 rfl ?_ ?_
  · refine s_iload_n (pc := 10) hF dX1_read_10 rfl rfl ?_
    refine s_iconst (pc := 11) hF dX1_read_11 (0 : Int32) (by decide) ?_
    refine s_bipush (pc := 12) hF dX1_read_12 (23 : Int32) (by decide) ?_
    refine s_callS (pc := 14) (As := [.int a2, .int (0 : Int32), .int (23 : Int32)]) (st := []) (stf := fun r9 => .int r9 :: []) hF (mX1_within a2 (0 : Int32) (23 : Int32)) cw_X1_within q1147 q1148 rfl ⟨Nat.le_of_ble_eq_true rfl, Nat.le_of_ble_eq_true rfl⟩ ⟨trivial, Nat.le_of_ble_eq_true rfl⟩ dX1_read_14 rfl (fun _ => rfl) (fun v4 M5 z6 => ?_)
    refine s_if_ne (pc := 17) hF 23 dX1_read_17 rfl ?_ ?_
    · refine s_iload_n (pc := 23) hF dX1_read_23 rfl rfl ?_
      refine s_istore_n (L9 := [some (va_rf a0), some (.int a1), some (.int a2), some (.int a2), none, none, none]) (pc := 24) hF dX1_read_24 rfl (Nat.le_of_ble_eq_true rfl) rfl ?_
      refine s_aload_n (pc := 25) hF dX1_read_25 rfl rfl ?_
      refine s_getr (pc := 26) hF (fl_X1_86 hF) dX1_read_26 (fun v7 => ?_)
      refine s_iload_n (pc := 29) hF dX1_read_29 rfl rfl ?_
      refine s_iald (pc := 30) hF dX1_read_30 (fun v8 => ?_)
      refine s_istore (L9 := [some (va_rf a0), some (.int a1), some (.int a2), some (.int a2), some (.int v8), none, none]) (pc := 31) hF dX1_read_31 (Nat.le_of_ble_eq_true rfl) rfl ?_
      exact SK.sb (gX1_read_L33 hF FU a0 a1 a2 v8 M5 z6) ⟨rfl, ⟨rfl, ⟨rfl, ⟨rfl, trivial⟩⟩⟩⟩
    · refine s_bipush (pc := 20) hF dX1_read_20 (-2 : Int32) (by decide) ?_
      exact s_iret (pc := 22) hF dX1_read_22
  · refine s_iconst (pc := 8) hF dX1_read_8 (-1 : Int32) (by decide) ?_
    exact s_iret (pc := 9) hF dX1_read_9
theorem mX1_read (a0 : Option Nat) (a1 : Int32) (a2 : Int32) : MT yX1_read cX1_read 7 (Option.some Jvm.ClassFile.FieldType.int) 7 163 eI [va_rf a0, .int a1, .int a2] (fX1_read a0 a1 a2) :=
  MT.of (L0 := [some (va_rf a0), some (.int a1), some (.int a2), none, none, none, none]) (by decide) ⟨ct _, ⟨rfl, ⟨rfl, trivial⟩⟩⟩ (Nat.le_of_ble_eq_true rfl) rfl (fun _ _ hF M z => gX1_read hF a0 a1 a2 M z)

def fX1_manyOfKind_J28 (r4 : Option Nat → Int32 → Int32 → Int32 → Mp → Nat → Rs Int32) (l0 : Option Nat) (l1 : Int32) (l3 : Int32) (s0 : Int32) (s1 : Int32) (M : Mp) (z : Nat) : Rs Int32 := r4 l0 l1 (s0 + s1) (l3 + 1) M z

theorem gX1_manyOfKind_J28 {G : Cx} {F : Option Value × Mp × Nat}  {r4 : Option Nat → Int32 → Int32 → Int32 → Mp → Nat → Rs Int32}(hF : FX G cX1_manyOfKind 4 RX1 (Option.some Jvm.ClassFile.FieldType.int) "manyOfKind" 0 0) (hr4 : ∀ l0 l1 l2 l3 M z, SK G F 4 eI 4 [some (va_rf l0), some (.int l1), some (.int l2), some (.int l3)] [] M z (r4 l0 l1 l2 l3 M z)) (l0 : Option Nat) (l1 : Int32) (l3 : Int32) (s0 : Int32) (s1 : Int32) (M : Mp) (z : Nat) : SK G F 4 eI 28 [some (va_rf l0), some (.int l1), none, some (.int l3)] [.int s1, .int s0] M z (fX1_manyOfKind_J28 r4 l0 l1 l3 s0 s1 M z) := by
  unfold fX1_manyOfKind_J28
  refine s_iadd (pc := 28) hF dX1_manyOfKind_28 ?_
  refine s_istore_n (L9 := [some (va_rf l0), some (.int l1), some (.int (s0 + s1)), some (.int l3)]) (pc := 29) hF dX1_manyOfKind_29 rfl (Nat.le_of_ble_eq_true rfl) rfl ?_
  refine s_iinc (v := l3 + 1) (L9 := [some (va_rf l0), some (.int l1), some (.int (s0 + s1)), some (.int (l3 + 1))]) (pc := 30) hF dX1_manyOfKind_30 rfl rfl (Nat.le_of_ble_eq_true rfl) rfl ?_
  refine s_goto (pc := 33) hF 4 dX1_manyOfKind_33 rfl ?_
  exact SK.sb (hr4 l0 l1 (s0 + s1) (l3 + 1) M z) ⟨rfl, ⟨rfl, ⟨rfl, ⟨rfl, trivial⟩⟩⟩⟩

def fX1_manyOfKind_L4 : Nat → Option Nat → Int32 → Int32 → Int32 → Mp → Nat → Rs Int32
  | 0, _, _, _, _, _, _ => none
  | fu + 1, l0, l1, l2, l3, M, z => (gi M l0 [1] 0).bind fun v1 =>
if l3 < v1 then
  ((gr M l0 [1] 2).bind fun v2 =>
(ai M 0 v2 l3).bind fun v3 =>
if v3 = l1 then
  (fX1_manyOfKind_J28 (fX1_manyOfKind_L4 fu) l0 l1 l3 l2 (1 : Int32) M z)
else
  (fX1_manyOfKind_J28 (fX1_manyOfKind_L4 fu) l0 l1 l3 l2 (0 : Int32) M z))
else
  (some (l2, M, 0, 0))

theorem gX1_manyOfKind_L4 {G : Cx} {F : Option Value × Mp × Nat} (hF : FX G cX1_manyOfKind 4 RX1 (Option.some Jvm.ClassFile.FieldType.int) "manyOfKind" 0 0) : ∀ (fu : Nat) (l0 : Option Nat) (l1 : Int32) (l2 : Int32) (l3 : Int32) (M : Mp) (z : Nat), SK G F 4 eI 4 [some (va_rf l0), some (.int l1), some (.int l2), some (.int l3)] [] M z (fX1_manyOfKind_L4 fu l0 l1 l2 l3 M z) := by
  intro fu
  induction fu with
  | zero => intros; exact SK.fail
  | succ fu ih =>
    intro l0 l1 l2 l3 M z
    rw [fX1_manyOfKind_L4]
    refine s_iload_n (pc := 4) hF dX1_manyOfKind_4 rfl rfl ?_
    refine s_aload_n (pc := 5) hF dX1_manyOfKind_5 rfl rfl ?_
    refine s_geti (pc := 6) hF (fl_X1_98 hF) dX1_manyOfKind_6 (fun v1 => ?_)
    refine s_icmp_ge (pc := 9) hF 36 dX1_manyOfKind_9 rfl ?_ ?_
    · refine s_iload_n (pc := 36) hF dX1_manyOfKind_36 rfl rfl ?_
      exact s_iret (pc := 37) hF dX1_manyOfKind_37
    · refine s_iload_n (pc := 12) hF dX1_manyOfKind_12 rfl rfl ?_
      refine s_aload_n (pc := 13) hF dX1_manyOfKind_13 rfl rfl ?_
      refine s_getr (pc := 14) hF (fl_X1_13 hF) dX1_manyOfKind_14 (fun v2 => ?_)
      refine s_iload_n (pc := 17) hF dX1_manyOfKind_17 rfl rfl ?_
      refine s_iald (pc := 18) hF dX1_manyOfKind_18 (fun v3 => ?_)
      refine s_iload_n (pc := 19) hF dX1_manyOfKind_19 rfl rfl ?_
      refine s_icmp_ne (pc := 20) hF 27 dX1_manyOfKind_20 rfl ?_ ?_
      · refine s_iconst (pc := 27) hF dX1_manyOfKind_27 (0 : Int32) (by decide) ?_
        exact SK.sb (gX1_manyOfKind_J28 hF ih l0 l1 l3 l2 (0 : Int32) M z) ⟨rfl, ⟨rfl, ⟨rfl, trivial⟩⟩⟩
      · refine s_iconst (pc := 23) hF dX1_manyOfKind_23 (1 : Int32) (by decide) ?_
        refine s_goto (pc := 24) hF 28 dX1_manyOfKind_24 rfl ?_
        exact SK.sb (gX1_manyOfKind_J28 hF ih l0 l1 l3 l2 (1 : Int32) M z) ⟨rfl, ⟨rfl, ⟨rfl, trivial⟩⟩⟩
def fX1_manyOfKind (a0 : Option Nat) (a1 : Int32) (M : Mp) (z : Nat) : Rs Int32 := fX1_manyOfKind_L4 FU a0 a1 (0 : Int32) (0 : Int32) M z
theorem gX1_manyOfKind {G : Cx} {F : Option Value × Mp × Nat} (hF : FX G cX1_manyOfKind 4 RX1 (Option.some Jvm.ClassFile.FieldType.int) "manyOfKind" 0 0) (a0 : Option Nat) (a1 : Int32) (M : Mp) (z : Nat) : SK G F 4 eI 0 [some (va_rf a0), some (.int a1), none, none] [] M z (fX1_manyOfKind a0 a1 M z) := by
  unfold fX1_manyOfKind
  refine s_iconst (pc := 0) hF dX1_manyOfKind_0 (0 : Int32) (by decide) ?_
  refine s_istore_n (L9 := [some (va_rf a0), some (.int a1), some (.int (0 : Int32)), none]) (pc := 1) hF dX1_manyOfKind_1 rfl (Nat.le_of_ble_eq_true rfl) rfl ?_
  refine s_iconst (pc := 2) hF dX1_manyOfKind_2 (0 : Int32) (by decide) ?_
  refine s_istore_n (L9 := [some (va_rf a0), some (.int a1), some (.int (0 : Int32)), some (.int (0 : Int32))]) (pc := 3) hF dX1_manyOfKind_3 rfl (Nat.le_of_ble_eq_true rfl) rfl ?_
  exact SK.sb (gX1_manyOfKind_L4 hF FU a0 a1 (0 : Int32) (0 : Int32) M z) ⟨rfl, ⟨rfl, ⟨rfl, ⟨rfl, trivial⟩⟩⟩⟩
theorem mX1_manyOfKind (a0 : Option Nat) (a1 : Int32) : MT yX1_manyOfKind cX1_manyOfKind 4 (Option.some Jvm.ClassFile.FieldType.int) 0 0 eI [va_rf a0, .int a1] (fX1_manyOfKind a0 a1) :=
  MT.of (L0 := [some (va_rf a0), some (.int a1), none, none]) (by decide) ⟨ct _, ⟨rfl, trivial⟩⟩ (Nat.le_of_ble_eq_true rfl) rfl (fun _ _ hF M z => gX1_manyOfKind hF a0 a1 M z)

def fX1_manyTexts_J69 (r4 : Option Nat → Int32 → Int32 → Int32 → Mp → Nat → Rs Int32) (l0 : Option Nat) (l1 : Int32) (l3 : Int32) (s0 : Int32) (s1 : Int32) (M : Mp) (z : Nat) : Rs Int32 := r4 l0 l1 (s0 + s1) (l3 + 1) M z

theorem gX1_manyTexts_J69 {G : Cx} {F : Option Value × Mp × Nat}  {r4 : Option Nat → Int32 → Int32 → Int32 → Mp → Nat → Rs Int32}(hF : FX G cX1_manyTexts 5 RX1 (Option.some Jvm.ClassFile.FieldType.int) "manyTexts" 0 0) (hr4 : ∀ l0 l1 l2 l3 M z, SK G F 5 eI 4 [some (va_rf l0), some (.int l1), some (.int l2), some (.int l3), none] [] M z (r4 l0 l1 l2 l3 M z)) (l0 : Option Nat) (l1 : Int32) (l3 : Int32) (s0 : Int32) (s1 : Int32) (M : Mp) (z : Nat) : SK G F 5 eI 69 [some (va_rf l0), some (.int l1), none, some (.int l3), none] [.int s1, .int s0] M z (fX1_manyTexts_J69 r4 l0 l1 l3 s0 s1 M z) := by
  unfold fX1_manyTexts_J69
  refine s_iadd (pc := 69) hF dX1_manyTexts_69 ?_
  refine s_istore_n (L9 := [some (va_rf l0), some (.int l1), some (.int (s0 + s1)), some (.int l3), none]) (pc := 70) hF dX1_manyTexts_70 rfl (Nat.le_of_ble_eq_true rfl) rfl ?_
  refine s_iinc (v := l3 + 1) (L9 := [some (va_rf l0), some (.int l1), some (.int (s0 + s1)), some (.int (l3 + 1)), none]) (pc := 71) hF dX1_manyTexts_71 rfl rfl (Nat.le_of_ble_eq_true rfl) rfl ?_
  refine s_goto (pc := 74) hF 4 dX1_manyTexts_74 rfl ?_
  exact SK.sb (hr4 l0 l1 (s0 + s1) (l3 + 1) M z) ⟨rfl, ⟨rfl, ⟨rfl, ⟨rfl, trivial⟩⟩⟩⟩

def fX1_manyTexts_J56 (r4 : Option Nat → Int32 → Int32 → Int32 → Mp → Nat → Rs Int32) (l0 : Option Nat) (l1 : Int32) (l2 : Int32) (l3 : Int32) (s0 : Int32) (M : Mp) (z : Nat) : Rs Int32 := if s0 = 0 then
  (fX1_manyTexts_J69 r4 l0 l1 l3 l2 (0 : Int32) M z)
else
  (fX1_manyTexts_J69 r4 l0 l1 l3 l2 (1 : Int32) M z)

theorem gX1_manyTexts_J56 {G : Cx} {F : Option Value × Mp × Nat}  {r4 : Option Nat → Int32 → Int32 → Int32 → Mp → Nat → Rs Int32}(hF : FX G cX1_manyTexts 5 RX1 (Option.some Jvm.ClassFile.FieldType.int) "manyTexts" 0 0) (hr4 : ∀ l0 l1 l2 l3 M z, SK G F 5 eI 4 [some (va_rf l0), some (.int l1), some (.int l2), some (.int l3), none] [] M z (r4 l0 l1 l2 l3 M z)) (l0 : Option Nat) (l1 : Int32) (l2 : Int32) (l3 : Int32) (s0 : Int32) (M : Mp) (z : Nat) : SK G F 5 eI 56 [some (va_rf l0), some (.int l1), some (.int l2), some (.int l3), none] [.int s0] M z (fX1_manyTexts_J56 r4 l0 l1 l2 l3 s0 M z) := by
  unfold fX1_manyTexts_J56
  refine s_istore (L9 := [some (va_rf l0), some (.int l1), some (.int l2), some (.int l3), some (.int s0)]) (pc := 56) hF dX1_manyTexts_56 (Nat.le_of_ble_eq_true rfl) rfl ?_
  refine s_iload_n (pc := 58) hF dX1_manyTexts_58 rfl rfl ?_
  refine s_iload (pc := 59) hF dX1_manyTexts_59 rfl ?_
  refine s_if_eq (pc := 61) hF 68 dX1_manyTexts_61 rfl ?_ ?_
  · refine s_iconst (pc := 68) hF dX1_manyTexts_68 (0 : Int32) (by decide) ?_
    exact SK.sb (gX1_manyTexts_J69 hF hr4 l0 l1 l3 l2 (0 : Int32) M z) ⟨rfl, ⟨rfl, ⟨rfl, trivial⟩⟩⟩
  · refine s_iconst (pc := 64) hF dX1_manyTexts_64 (1 : Int32) (by decide) ?_
    refine s_goto (pc := 65) hF 69 dX1_manyTexts_65 rfl ?_
    exact SK.sb (gX1_manyTexts_J69 hF hr4 l0 l1 l3 l2 (1 : Int32) M z) ⟨rfl, ⟨rfl, ⟨rfl, trivial⟩⟩⟩

def fX1_manyTexts_L4 : Nat → Option Nat → Int32 → Int32 → Int32 → Mp → Nat → Rs Int32
  | 0, _, _, _, _, _, _ => none
  | fu + 1, l0, l1, l2, l3, M, z => (gi M l0 [1] 0).bind fun v1 =>
if l3 < v1 then
  ((gr M l0 [1] 2).bind fun v2 =>
(ai M 0 v2 l3).bind fun v3 =>
if v3 = (1 : Int32) then
  (if l1 = 0 then
  ((gr M l0 [1] 17).bind fun v4 =>
(ai M 0 v4 l3).bind fun v5 =>
if v5 = (-9 : Int32) then
  (fX1_manyTexts_J56 (fX1_manyTexts_L4 fu) l0 l1 l2 l3 (1 : Int32) M z)
else
  (fX1_manyTexts_J56 (fX1_manyTexts_L4 fu) l0 l1 l2 l3 (0 : Int32) M z))
else
  ((gr M l0 [1] 18).bind fun v6 =>
(ai M 0 v6 l3).bind fun v7 =>
if v7 = (-9 : Int32) then
  (fX1_manyTexts_J56 (fX1_manyTexts_L4 fu) l0 l1 l2 l3 (0 : Int32) M z)
else
  (fX1_manyTexts_J56 (fX1_manyTexts_L4 fu) l0 l1 l2 l3 (1 : Int32) M z)))
else
  (fX1_manyTexts_J56 (fX1_manyTexts_L4 fu) l0 l1 l2 l3 (0 : Int32) M z))
else
  (some (l2, M, 0, 0))

theorem gX1_manyTexts_L4 {G : Cx} {F : Option Value × Mp × Nat} (hF : FX G cX1_manyTexts 5 RX1 (Option.some Jvm.ClassFile.FieldType.int) "manyTexts" 0 0) : ∀ (fu : Nat) (l0 : Option Nat) (l1 : Int32) (l2 : Int32) (l3 : Int32) (M : Mp) (z : Nat), SK G F 5 eI 4 [some (va_rf l0), some (.int l1), some (.int l2), some (.int l3), none] [] M z (fX1_manyTexts_L4 fu l0 l1 l2 l3 M z) := by
  intro fu
  induction fu with
  | zero => intros; exact SK.fail
  | succ fu ih =>
    intro l0 l1 l2 l3 M z
    rw [fX1_manyTexts_L4]
    refine s_iload_n (pc := 4) hF dX1_manyTexts_4 rfl rfl ?_
    refine s_aload_n (pc := 5) hF dX1_manyTexts_5 rfl rfl ?_
    refine s_geti (pc := 6) hF (fl_X1_98 hF) dX1_manyTexts_6 (fun v1 => ?_)
    refine s_icmp_ge (pc := 9) hF 77 dX1_manyTexts_9 rfl ?_ ?_
    · refine s_iload_n (pc := 77) hF dX1_manyTexts_77 rfl rfl ?_
      exact s_iret (pc := 78) hF dX1_manyTexts_78
    · refine s_aload_n (pc := 12) hF dX1_manyTexts_12 rfl rfl ?_
      refine s_getr (pc := 13) hF (fl_X1_13 hF) dX1_manyTexts_13 (fun v2 => ?_)
      refine s_iload_n (pc := 16) hF dX1_manyTexts_16 rfl rfl ?_
      refine s_iald (pc := 17) hF dX1_manyTexts_17 (fun v3 => ?_)
      refine s_iconst (pc := 18) hF dX1_manyTexts_18 (1 : Int32) (by decide) ?_
      refine s_icmp_ne (pc := 19) hF 55 dX1_manyTexts_19 rfl ?_ ?_
      · refine s_iconst (pc := 55) hF dX1_manyTexts_55 (0 : Int32) (by decide) ?_
        exact SK.sb (gX1_manyTexts_J56 hF ih l0 l1 l2 l3 (0 : Int32) M z) ⟨rfl, ⟨rfl, ⟨rfl, ⟨rfl, trivial⟩⟩⟩⟩
      · refine s_iload_n (pc := 22) hF dX1_manyTexts_22 rfl rfl ?_
        refine s_if_eq (pc := 23) hF 40 dX1_manyTexts_23 rfl ?_ ?_
        · refine s_aload_n (pc := 40) hF dX1_manyTexts_40 rfl rfl ?_
          refine s_getr (pc := 41) hF (fl_X1_55 hF) dX1_manyTexts_41 (fun v4 => ?_)
          refine s_iload_n (pc := 44) hF dX1_manyTexts_44 rfl rfl ?_
          refine s_iald (pc := 45) hF dX1_manyTexts_45 (fun v5 => ?_)
          refine s_bipush (pc := 46) hF dX1_manyTexts_46 (-9 : Int32) (by decide) ?_
          refine s_icmp_ne (pc := 48) hF 55 dX1_manyTexts_48 rfl ?_ ?_
          · refine s_iconst (pc := 55) hF dX1_manyTexts_55 (0 : Int32) (by decide) ?_
            exact SK.sb (gX1_manyTexts_J56 hF ih l0 l1 l2 l3 (0 : Int32) M z) ⟨rfl, ⟨rfl, ⟨rfl, ⟨rfl, trivial⟩⟩⟩⟩
          · refine s_iconst (pc := 51) hF dX1_manyTexts_51 (1 : Int32) (by decide) ?_
            refine s_goto (pc := 52) hF 56 dX1_manyTexts_52 rfl ?_
            exact SK.sb (gX1_manyTexts_J56 hF ih l0 l1 l2 l3 (1 : Int32) M z) ⟨rfl, ⟨rfl, ⟨rfl, ⟨rfl, trivial⟩⟩⟩⟩
        · refine s_aload_n (pc := 26) hF dX1_manyTexts_26 rfl rfl ?_
          refine s_getr (pc := 27) hF (fl_X1_58 hF) dX1_manyTexts_27 (fun v6 => ?_)
          refine s_iload_n (pc := 30) hF dX1_manyTexts_30 rfl rfl ?_
          refine s_iald (pc := 31) hF dX1_manyTexts_31 (fun v7 => ?_)
          refine s_bipush (pc := 32) hF dX1_manyTexts_32 (-9 : Int32) (by decide) ?_
          refine s_icmp_eq (pc := 34) hF 55 dX1_manyTexts_34 rfl ?_ ?_
          · refine s_iconst (pc := 55) hF dX1_manyTexts_55 (0 : Int32) (by decide) ?_
            exact SK.sb (gX1_manyTexts_J56 hF ih l0 l1 l2 l3 (0 : Int32) M z) ⟨rfl, ⟨rfl, ⟨rfl, ⟨rfl, trivial⟩⟩⟩⟩
          · refine s_goto (pc := 37) hF 51 dX1_manyTexts_37 rfl ?_
            refine s_iconst (pc := 51) hF dX1_manyTexts_51 (1 : Int32) (by decide) ?_
            refine s_goto (pc := 52) hF 56 dX1_manyTexts_52 rfl ?_
            exact SK.sb (gX1_manyTexts_J56 hF ih l0 l1 l2 l3 (1 : Int32) M z) ⟨rfl, ⟨rfl, ⟨rfl, ⟨rfl, trivial⟩⟩⟩⟩
def fX1_manyTexts (a0 : Option Nat) (a1 : Int32) (M : Mp) (z : Nat) : Rs Int32 := fX1_manyTexts_L4 FU a0 a1 (0 : Int32) (0 : Int32) M z
theorem gX1_manyTexts {G : Cx} {F : Option Value × Mp × Nat} (hF : FX G cX1_manyTexts 5 RX1 (Option.some Jvm.ClassFile.FieldType.int) "manyTexts" 0 0) (a0 : Option Nat) (a1 : Int32) (M : Mp) (z : Nat) : SK G F 5 eI 0 [some (va_rf a0), some (.int a1), none, none, none] [] M z (fX1_manyTexts a0 a1 M z) := by
  unfold fX1_manyTexts
  refine s_iconst (pc := 0) hF dX1_manyTexts_0 (0 : Int32) (by decide) ?_
  refine s_istore_n (L9 := [some (va_rf a0), some (.int a1), some (.int (0 : Int32)), none, none]) (pc := 1) hF dX1_manyTexts_1 rfl (Nat.le_of_ble_eq_true rfl) rfl ?_
  refine s_iconst (pc := 2) hF dX1_manyTexts_2 (0 : Int32) (by decide) ?_
  refine s_istore_n (L9 := [some (va_rf a0), some (.int a1), some (.int (0 : Int32)), some (.int (0 : Int32)), none]) (pc := 3) hF dX1_manyTexts_3 rfl (Nat.le_of_ble_eq_true rfl) rfl ?_
  exact SK.sb (gX1_manyTexts_L4 hF FU a0 a1 (0 : Int32) (0 : Int32) M z) ⟨rfl, ⟨rfl, ⟨rfl, ⟨rfl, trivial⟩⟩⟩⟩
theorem mX1_manyTexts (a0 : Option Nat) (a1 : Int32) : MT yX1_manyTexts cX1_manyTexts 5 (Option.some Jvm.ClassFile.FieldType.int) 0 0 eI [va_rf a0, .int a1] (fX1_manyTexts a0 a1) :=
  MT.of (L0 := [some (va_rf a0), some (.int a1), none, none, none]) (by decide) ⟨ct _, ⟨rfl, trivial⟩⟩ (Nat.le_of_ble_eq_true rfl) rfl (fun _ _ hF M z => gX1_manyTexts hF a0 a1 M z)

def fX1_manyRings_J27 (r4 : Option Nat → Int32 → Int32 → Mp → Nat → Rs Int32) (l0 : Option Nat) (l2 : Int32) (s0 : Int32) (s1 : Int32) (M : Mp) (z : Nat) : Rs Int32 := r4 l0 (s0 + s1) (l2 + 1) M z

theorem gX1_manyRings_J27 {G : Cx} {F : Option Value × Mp × Nat}  {r4 : Option Nat → Int32 → Int32 → Mp → Nat → Rs Int32}(hF : FX G cX1_manyRings 3 RX1 (Option.some Jvm.ClassFile.FieldType.int) "manyRings" 0 0) (hr4 : ∀ l0 l1 l2 M z, SK G F 3 eI 4 [some (va_rf l0), some (.int l1), some (.int l2)] [] M z (r4 l0 l1 l2 M z)) (l0 : Option Nat) (l2 : Int32) (s0 : Int32) (s1 : Int32) (M : Mp) (z : Nat) : SK G F 3 eI 27 [some (va_rf l0), none, some (.int l2)] [.int s1, .int s0] M z (fX1_manyRings_J27 r4 l0 l2 s0 s1 M z) := by
  unfold fX1_manyRings_J27
  refine s_iadd (pc := 27) hF dX1_manyRings_27 ?_
  refine s_istore_n (L9 := [some (va_rf l0), some (.int (s0 + s1)), some (.int l2)]) (pc := 28) hF dX1_manyRings_28 rfl (Nat.le_of_ble_eq_true rfl) rfl ?_
  refine s_iinc (v := l2 + 1) (L9 := [some (va_rf l0), some (.int (s0 + s1)), some (.int (l2 + 1))]) (pc := 29) hF dX1_manyRings_29 rfl rfl (Nat.le_of_ble_eq_true rfl) rfl ?_
  refine s_goto (pc := 32) hF 4 dX1_manyRings_32 rfl ?_
  exact SK.sb (hr4 l0 (s0 + s1) (l2 + 1) M z) ⟨rfl, ⟨rfl, ⟨rfl, trivial⟩⟩⟩

def fX1_manyRings_L4 : Nat → Option Nat → Int32 → Int32 → Mp → Nat → Rs Int32
  | 0, _, _, _, _, _ => none
  | fu + 1, l0, l1, l2, M, z => (gi M l0 [1] 28).bind fun v1 =>
if l2 < v1 then
  ((gr M l0 [1] 30).bind fun v2 =>
(ai M 1 v2 l2).bind fun v3 =>
if v3 = 0 then
  (fX1_manyRings_J27 (fX1_manyRings_L4 fu) l0 l2 l1 (0 : Int32) M z)
else
  (fX1_manyRings_J27 (fX1_manyRings_L4 fu) l0 l2 l1 (1 : Int32) M z))
else
  (some (l1, M, 0, 0))

theorem gX1_manyRings_L4 {G : Cx} {F : Option Value × Mp × Nat} (hF : FX G cX1_manyRings 3 RX1 (Option.some Jvm.ClassFile.FieldType.int) "manyRings" 0 0) : ∀ (fu : Nat) (l0 : Option Nat) (l1 : Int32) (l2 : Int32) (M : Mp) (z : Nat), SK G F 3 eI 4 [some (va_rf l0), some (.int l1), some (.int l2)] [] M z (fX1_manyRings_L4 fu l0 l1 l2 M z) := by
  intro fu
  induction fu with
  | zero => intros; exact SK.fail
  | succ fu ih =>
    intro l0 l1 l2 M z
    rw [fX1_manyRings_L4]
    refine s_iload_n (pc := 4) hF dX1_manyRings_4 rfl rfl ?_
    refine s_aload_n (pc := 5) hF dX1_manyRings_5 rfl rfl ?_
    refine s_geti (pc := 6) hF (fl_X1_162 hF) dX1_manyRings_6 (fun v1 => ?_)
    refine s_icmp_ge (pc := 9) hF 35 dX1_manyRings_9 rfl ?_ ?_
    · refine s_iload_n (pc := 35) hF dX1_manyRings_35 rfl rfl ?_
      exact s_iret (pc := 36) hF dX1_manyRings_36
    · refine s_iload_n (pc := 12) hF dX1_manyRings_12 rfl rfl ?_
      refine s_aload_n (pc := 13) hF dX1_manyRings_13 rfl rfl ?_
      refine s_getr (pc := 14) hF (fl_X1_89 hF) dX1_manyRings_14 (fun v2 => ?_)
      refine s_iload_n (pc := 17) hF dX1_manyRings_17 rfl rfl ?_
      refine s_zald (pc := 18) hF dX1_manyRings_18 (fun v3 => ?_)
      refine s_if_eq (pc := 19) hF 26 dX1_manyRings_19 rfl ?_ ?_
      · refine s_iconst (pc := 26) hF dX1_manyRings_26 (0 : Int32) (by decide) ?_
        exact SK.sb (gX1_manyRings_J27 hF ih l0 l2 l1 (0 : Int32) M z) ⟨rfl, ⟨rfl, trivial⟩⟩
      · refine s_iconst (pc := 22) hF dX1_manyRings_22 (1 : Int32) (by decide) ?_
        refine s_goto (pc := 23) hF 27 dX1_manyRings_23 rfl ?_
        exact SK.sb (gX1_manyRings_J27 hF ih l0 l2 l1 (1 : Int32) M z) ⟨rfl, ⟨rfl, trivial⟩⟩
def fX1_manyRings (a0 : Option Nat) (M : Mp) (z : Nat) : Rs Int32 := fX1_manyRings_L4 FU a0 (0 : Int32) (0 : Int32) M z
theorem gX1_manyRings {G : Cx} {F : Option Value × Mp × Nat} (hF : FX G cX1_manyRings 3 RX1 (Option.some Jvm.ClassFile.FieldType.int) "manyRings" 0 0) (a0 : Option Nat) (M : Mp) (z : Nat) : SK G F 3 eI 0 [some (va_rf a0), none, none] [] M z (fX1_manyRings a0 M z) := by
  unfold fX1_manyRings
  refine s_iconst (pc := 0) hF dX1_manyRings_0 (0 : Int32) (by decide) ?_
  refine s_istore_n (L9 := [some (va_rf a0), some (.int (0 : Int32)), none]) (pc := 1) hF dX1_manyRings_1 rfl (Nat.le_of_ble_eq_true rfl) rfl ?_
  refine s_iconst (pc := 2) hF dX1_manyRings_2 (0 : Int32) (by decide) ?_
  refine s_istore_n (L9 := [some (va_rf a0), some (.int (0 : Int32)), some (.int (0 : Int32))]) (pc := 3) hF dX1_manyRings_3 rfl (Nat.le_of_ble_eq_true rfl) rfl ?_
  exact SK.sb (gX1_manyRings_L4 hF FU a0 (0 : Int32) (0 : Int32) M z) ⟨rfl, ⟨rfl, ⟨rfl, trivial⟩⟩⟩
theorem mX1_manyRings (a0 : Option Nat) : MT yX1_manyRings cX1_manyRings 3 (Option.some Jvm.ClassFile.FieldType.int) 0 0 eI [va_rf a0] (fX1_manyRings a0) :=
  MT.of (L0 := [some (va_rf a0), none, none]) (by decide) ⟨ct _, trivial⟩ (Nat.le_of_ble_eq_true rfl) rfl (fun _ _ hF M z => gX1_manyRings hF a0 M z)

def fX1_manyBroken_J26 (r4 : Option Nat → Int32 → Int32 → Mp → Nat → Rs Int32) (l0 : Option Nat) (l2 : Int32) (s0 : Int32) (s1 : Int32) (M : Mp) (z : Nat) : Rs Int32 := r4 l0 (s0 + s1) (l2 + 1) M z

theorem gX1_manyBroken_J26 {G : Cx} {F : Option Value × Mp × Nat}  {r4 : Option Nat → Int32 → Int32 → Mp → Nat → Rs Int32}(hF : FX G cX1_manyBroken 3 RX1 (Option.some Jvm.ClassFile.FieldType.int) "manyBroken" 1 21) (hr4 : ∀ l0 l1 l2 M z, SK G F 3 eI 4 [some (va_rf l0), some (.int l1), some (.int l2)] [] M z (r4 l0 l1 l2 M z)) (l0 : Option Nat) (l2 : Int32) (s0 : Int32) (s1 : Int32) (M : Mp) (z : Nat) : SK G F 3 eI 26 [some (va_rf l0), none, some (.int l2)] [.int s1, .int s0] M z (fX1_manyBroken_J26 r4 l0 l2 s0 s1 M z) := by
  unfold fX1_manyBroken_J26
  refine s_iadd (pc := 26) hF dX1_manyBroken_26 ?_
  refine s_istore_n (L9 := [some (va_rf l0), some (.int (s0 + s1)), some (.int l2)]) (pc := 27) hF dX1_manyBroken_27 rfl (Nat.le_of_ble_eq_true rfl) rfl ?_
  refine s_iinc (v := l2 + 1) (L9 := [some (va_rf l0), some (.int (s0 + s1)), some (.int (l2 + 1))]) (pc := 28) hF dX1_manyBroken_28 rfl rfl (Nat.le_of_ble_eq_true rfl) rfl ?_
  refine s_goto (pc := 31) hF 4 dX1_manyBroken_31 rfl ?_
  exact SK.sb (hr4 l0 (s0 + s1) (l2 + 1) M z) ⟨rfl, ⟨rfl, ⟨rfl, trivial⟩⟩⟩

def fX1_manyBroken_L4 : Nat → Option Nat → Int32 → Int32 → Mp → Nat → Rs Int32
  | 0, _, _, _, _, _ => none
  | fu + 1, l0, l1, l2, M, z => (gi M l0 [1] 21).bind fun v1 =>
if l2 < v1 then
  (if ckc M l0 [1] = true then
  (cb (fX1_isBroken l0 l2 M z) z fun v2 M3 z4 =>
if v2 = 0 then
  (fX1_manyBroken_J26 (fX1_manyBroken_L4 fu) l0 l2 l1 (0 : Int32) M3 z4)
else
  (fX1_manyBroken_J26 (fX1_manyBroken_L4 fu) l0 l2 l1 (1 : Int32) M3 z4))
else none)
else
  (some (l1, M, 0, 0))

theorem gX1_manyBroken_L4 {G : Cx} {F : Option Value × Mp × Nat} (hF : FX G cX1_manyBroken 3 RX1 (Option.some Jvm.ClassFile.FieldType.int) "manyBroken" 1 21) : ∀ (fu : Nat) (l0 : Option Nat) (l1 : Int32) (l2 : Int32) (M : Mp) (z : Nat), SK G F 3 eI 4 [some (va_rf l0), some (.int l1), some (.int l2)] [] M z (fX1_manyBroken_L4 fu l0 l1 l2 M z) := by
  intro fu
  induction fu with
  | zero => intros; exact SK.fail
  | succ fu ih =>
    intro l0 l1 l2 M z
    rw [fX1_manyBroken_L4]
    refine s_iload_n (pc := 4) hF dX1_manyBroken_4 rfl rfl ?_
    refine s_aload_n (pc := 5) hF dX1_manyBroken_5 rfl rfl ?_
    refine s_geti (pc := 6) hF (fl_X1_153 hF) dX1_manyBroken_6 (fun v1 => ?_)
    refine s_icmp_ge (pc := 9) hF 34 dX1_manyBroken_9 rfl ?_ ?_
    · refine s_iload_n (pc := 34) hF dX1_manyBroken_34 rfl rfl ?_
      exact s_iret (pc := 35) hF dX1_manyBroken_35
    · refine s_iload_n (pc := 12) hF dX1_manyBroken_12 rfl rfl ?_
      refine s_aload_n (pc := 13) hF dX1_manyBroken_13 rfl rfl ?_
      refine s_iload_n (pc := 14) hF dX1_manyBroken_14 rfl rfl ?_
      refine s_callV (pc := 15) (As := [.int l2]) (st := [.int l1]) (stf := fun r9 => .int r9 :: [.int l1]) hF (mX1_isBroken l0 l2) cw_X1_isBroken q1302 q1304 (List.forall_mem_cons.mpr ⟨⟨(RX1, TX1, 34), rfl, qs48⟩, fun _ h9 => absurd h9 List.not_mem_nil⟩) rfl ⟨Nat.le_of_ble_eq_true rfl, Nat.le_of_ble_eq_true rfl⟩ ⟨⟨rfl, trivial⟩, Nat.le_of_ble_eq_true rfl⟩ dX1_manyBroken_15 rfl (fun _ => rfl) (fun v2 M3 z4 => ?_)
      refine s_if_eq (pc := 18) hF 25 dX1_manyBroken_18 rfl ?_ ?_
      · refine s_iconst (pc := 25) hF dX1_manyBroken_25 (0 : Int32) (by decide) ?_
        exact SK.sb (gX1_manyBroken_J26 hF ih l0 l2 l1 (0 : Int32) M3 z4) ⟨rfl, ⟨rfl, trivial⟩⟩
      · refine s_iconst (pc := 21) hF dX1_manyBroken_21 (1 : Int32) (by decide) ?_
        refine s_goto (pc := 22) hF 26 dX1_manyBroken_22 rfl ?_
        exact SK.sb (gX1_manyBroken_J26 hF ih l0 l2 l1 (1 : Int32) M3 z4) ⟨rfl, ⟨rfl, trivial⟩⟩
def fX1_manyBroken (a0 : Option Nat) (M : Mp) (z : Nat) : Rs Int32 := fX1_manyBroken_L4 FU a0 (0 : Int32) (0 : Int32) M z
theorem gX1_manyBroken {G : Cx} {F : Option Value × Mp × Nat} (hF : FX G cX1_manyBroken 3 RX1 (Option.some Jvm.ClassFile.FieldType.int) "manyBroken" 1 21) (a0 : Option Nat) (M : Mp) (z : Nat) : SK G F 3 eI 0 [some (va_rf a0), none, none] [] M z (fX1_manyBroken a0 M z) := by
  unfold fX1_manyBroken
  refine s_iconst (pc := 0) hF dX1_manyBroken_0 (0 : Int32) (by decide) ?_
  refine s_istore_n (L9 := [some (va_rf a0), some (.int (0 : Int32)), none]) (pc := 1) hF dX1_manyBroken_1 rfl (Nat.le_of_ble_eq_true rfl) rfl ?_
  refine s_iconst (pc := 2) hF dX1_manyBroken_2 (0 : Int32) (by decide) ?_
  refine s_istore_n (L9 := [some (va_rf a0), some (.int (0 : Int32)), some (.int (0 : Int32))]) (pc := 3) hF dX1_manyBroken_3 rfl (Nat.le_of_ble_eq_true rfl) rfl ?_
  exact SK.sb (gX1_manyBroken_L4 hF FU a0 (0 : Int32) (0 : Int32) M z) ⟨rfl, ⟨rfl, ⟨rfl, trivial⟩⟩⟩
theorem mX1_manyBroken (a0 : Option Nat) : MT yX1_manyBroken cX1_manyBroken 3 (Option.some Jvm.ClassFile.FieldType.int) 1 21 eI [va_rf a0] (fX1_manyBroken a0) :=
  MT.of (L0 := [some (va_rf a0), none, none]) (by decide) ⟨ct _, trivial⟩ (Nat.le_of_ble_eq_true rfl) rfl (fun _ _ hF M z => gX1_manyBroken hF a0 M z)

def fX1_manyIdle_J69 (r4 : Option Nat → Int32 → Int32 → Mp → Nat → Rs Int32) (l0 : Option Nat) (l2 : Int32) (s0 : Int32) (s1 : Int32) (M : Mp) (z : Nat) : Rs Int32 := r4 l0 (s0 + s1) (l2 + 1) M z

theorem gX1_manyIdle_J69 {G : Cx} {F : Option Value × Mp × Nat}  {r4 : Option Nat → Int32 → Int32 → Mp → Nat → Rs Int32}(hF : FX G cX1_manyIdle 4 RX1 (Option.some Jvm.ClassFile.FieldType.int) "manyIdle" 0 0) (hr4 : ∀ l0 l1 l2 M z, SK G F 4 eI 4 [some (va_rf l0), some (.int l1), some (.int l2), none] [] M z (r4 l0 l1 l2 M z)) (l0 : Option Nat) (l2 : Int32) (s0 : Int32) (s1 : Int32) (M : Mp) (z : Nat) : SK G F 4 eI 69 [some (va_rf l0), none, some (.int l2), none] [.int s1, .int s0] M z (fX1_manyIdle_J69 r4 l0 l2 s0 s1 M z) := by
  unfold fX1_manyIdle_J69
  refine s_iadd (pc := 69) hF dX1_manyIdle_69 ?_
  refine s_istore_n (L9 := [some (va_rf l0), some (.int (s0 + s1)), some (.int l2), none]) (pc := 70) hF dX1_manyIdle_70 rfl (Nat.le_of_ble_eq_true rfl) rfl ?_
  refine s_iinc (v := l2 + 1) (L9 := [some (va_rf l0), some (.int (s0 + s1)), some (.int (l2 + 1)), none]) (pc := 71) hF dX1_manyIdle_71 rfl rfl (Nat.le_of_ble_eq_true rfl) rfl ?_
  refine s_goto (pc := 74) hF 4 dX1_manyIdle_74 rfl ?_
  exact SK.sb (hr4 l0 (s0 + s1) (l2 + 1) M z) ⟨rfl, ⟨rfl, ⟨rfl, trivial⟩⟩⟩

def fX1_manyIdle_J58 (r4 : Option Nat → Int32 → Int32 → Mp → Nat → Rs Int32) (l0 : Option Nat) (l1 : Int32) (l2 : Int32) (s0 : Int32) (M : Mp) (z : Nat) : Rs Int32 := if s0 = 0 then
  (fX1_manyIdle_J69 r4 l0 l2 l1 (0 : Int32) M z)
else
  (fX1_manyIdle_J69 r4 l0 l2 l1 (1 : Int32) M z)

theorem gX1_manyIdle_J58 {G : Cx} {F : Option Value × Mp × Nat}  {r4 : Option Nat → Int32 → Int32 → Mp → Nat → Rs Int32}(hF : FX G cX1_manyIdle 4 RX1 (Option.some Jvm.ClassFile.FieldType.int) "manyIdle" 0 0) (hr4 : ∀ l0 l1 l2 M z, SK G F 4 eI 4 [some (va_rf l0), some (.int l1), some (.int l2), none] [] M z (r4 l0 l1 l2 M z)) (l0 : Option Nat) (l1 : Int32) (l2 : Int32) (s0 : Int32) (M : Mp) (z : Nat) : SK G F 4 eI 58 [some (va_rf l0), some (.int l1), some (.int l2), none] [.int s0] M z (fX1_manyIdle_J58 r4 l0 l1 l2 s0 M z) := by
  unfold fX1_manyIdle_J58
  refine s_istore_n (L9 := [some (va_rf l0), some (.int l1), some (.int l2), some (.int s0)]) (pc := 58) hF dX1_manyIdle_58 rfl (Nat.le_of_ble_eq_true rfl) rfl ?_
  refine s_iload_n (pc := 59) hF dX1_manyIdle_59 rfl rfl ?_
  refine s_iload_n (pc := 60) hF dX1_manyIdle_60 rfl rfl ?_
  refine s_if_eq (pc := 61) hF 68 dX1_manyIdle_61 rfl ?_ ?_
  · refine s_iconst (pc := 68) hF dX1_manyIdle_68 (0 : Int32) (by decide) ?_
    exact SK.sb (gX1_manyIdle_J69 hF hr4 l0 l2 l1 (0 : Int32) M z) ⟨rfl, ⟨rfl, trivial⟩⟩
  · refine s_iconst (pc := 64) hF dX1_manyIdle_64 (1 : Int32) (by decide) ?_
    refine s_goto (pc := 65) hF 69 dX1_manyIdle_65 rfl ?_
    exact SK.sb (gX1_manyIdle_J69 hF hr4 l0 l2 l1 (1 : Int32) M z) ⟨rfl, ⟨rfl, trivial⟩⟩

def fX1_manyIdle_L4 : Nat → Option Nat → Int32 → Int32 → Mp → Nat → Rs Int32
  | 0, _, _, _, _, _ => none
  | fu + 1, l0, l1, l2, M, z => (gi M l0 [1] 0).bind fun v1 =>
if l2 < v1 then
  ((gr M l0 [1] 2).bind fun v2 =>
(ai M 0 v2 l2).bind fun v3 =>
if v3 = (2 : Int32) then
  (fX1_manyIdle_J58 (fX1_manyIdle_L4 fu) l0 l1 l2 (0 : Int32) M z)
else
  ((gr M l0 [1] 8).bind fun v4 =>
(ai M 0 v4 (((2 : Int32) * l2) + (1 : Int32))).bind fun v5 =>
if v5 = (-9 : Int32) then
  (fX1_manyIdle_J58 (fX1_manyIdle_L4 fu) l0 l1 l2 (0 : Int32) M z)
else
  ((gr M l0 [1] 27).bind fun v6 =>
(gr M l0 [1] 23).bind fun v7 =>
(ai M 0 v7 l2).bind fun v8 =>
(ai M 0 v6 v8).bind fun v9 =>
if v9 = (-9 : Int32) then
  (fX1_manyIdle_J58 (fX1_manyIdle_L4 fu) l0 l1 l2 (1 : Int32) M z)
else
  (fX1_manyIdle_J58 (fX1_manyIdle_L4 fu) l0 l1 l2 (0 : Int32) M z))))
else
  (some (l1, M, 0, 0))

theorem gX1_manyIdle_L4 {G : Cx} {F : Option Value × Mp × Nat} (hF : FX G cX1_manyIdle 4 RX1 (Option.some Jvm.ClassFile.FieldType.int) "manyIdle" 0 0) : ∀ (fu : Nat) (l0 : Option Nat) (l1 : Int32) (l2 : Int32) (M : Mp) (z : Nat), SK G F 4 eI 4 [some (va_rf l0), some (.int l1), some (.int l2), none] [] M z (fX1_manyIdle_L4 fu l0 l1 l2 M z) := by
  intro fu
  induction fu with
  | zero => intros; exact SK.fail
  | succ fu ih =>
    intro l0 l1 l2 M z
    rw [fX1_manyIdle_L4]
    refine s_iload_n (pc := 4) hF dX1_manyIdle_4 rfl rfl ?_
    refine s_aload_n (pc := 5) hF dX1_manyIdle_5 rfl rfl ?_
    refine s_geti (pc := 6) hF (fl_X1_98 hF) dX1_manyIdle_6 (fun v1 => ?_)
    refine s_icmp_ge (pc := 9) hF 77 dX1_manyIdle_9 rfl ?_ ?_
    · refine s_iload_n (pc := 77) hF dX1_manyIdle_77 rfl rfl ?_
      exact s_iret (pc := 78) hF dX1_manyIdle_78
    · refine s_aload_n (pc := 12) hF dX1_manyIdle_12 rfl rfl ?_
      refine s_getr (pc := 13) hF (fl_X1_13 hF) dX1_manyIdle_13 (fun v2 => ?_)
      refine s_iload_n (pc := 16) hF dX1_manyIdle_16 rfl rfl ?_
      refine s_iald (pc := 17) hF dX1_manyIdle_17 (fun v3 => ?_)
      refine s_iconst (pc := 18) hF dX1_manyIdle_18 (2 : Int32) (by decide) ?_
      refine s_icmp_eq (pc := 19) hF 57 dX1_manyIdle_19 rfl ?_ ?_
      · refine s_iconst (pc := 57) hF dX1_manyIdle_57 (0 : Int32) (by decide) ?_
        exact SK.sb (gX1_manyIdle_J58 hF ih l0 l1 l2 (0 : Int32) M z) ⟨rfl, ⟨rfl, ⟨rfl, trivial⟩⟩⟩
      · refine s_aload_n (pc := 22) hF dX1_manyIdle_22 rfl rfl ?_
        refine s_getr (pc := 23) hF (fl_X1_31 hF) dX1_manyIdle_23 (fun v4 => ?_)
        refine s_iconst (pc := 26) hF dX1_manyIdle_26 (2 : Int32) (by decide) ?_
        refine s_iload_n (pc := 27) hF dX1_manyIdle_27 rfl rfl ?_
        refine s_imul (pc := 28) hF dX1_manyIdle_28 ?_
        refine s_iconst (pc := 29) hF dX1_manyIdle_29 (1 : Int32) (by decide) ?_
        refine s_iadd (pc := 30) hF dX1_manyIdle_30 ?_
        refine s_iald (pc := 31) hF dX1_manyIdle_31 (fun v5 => ?_)
        refine s_bipush (pc := 32) hF dX1_manyIdle_32 (-9 : Int32) (by decide) ?_
        refine s_icmp_eq (pc := 34) hF 57 dX1_manyIdle_34 rfl ?_ ?_
        · refine s_iconst (pc := 57) hF dX1_manyIdle_57 (0 : Int32) (by decide) ?_
          exact SK.sb (gX1_manyIdle_J58 hF ih l0 l1 l2 (0 : Int32) M z) ⟨rfl, ⟨rfl, ⟨rfl, trivial⟩⟩⟩
        · refine s_aload_n (pc := 37) hF dX1_manyIdle_37 rfl rfl ?_
          refine s_getr (pc := 38) hF (fl_X1_83 hF) dX1_manyIdle_38 (fun v6 => ?_)
          refine s_aload_n (pc := 41) hF dX1_manyIdle_41 rfl rfl ?_
          refine s_getr (pc := 42) hF (fl_X1_70 hF) dX1_manyIdle_42 (fun v7 => ?_)
          refine s_iload_n (pc := 45) hF dX1_manyIdle_45 rfl rfl ?_
          refine s_iald (pc := 46) hF dX1_manyIdle_46 (fun v8 => ?_)
          refine s_iald (pc := 47) hF dX1_manyIdle_47 (fun v9 => ?_)
          refine s_bipush (pc := 48) hF dX1_manyIdle_48 (-9 : Int32) (by decide) ?_
          refine s_icmp_ne (pc := 50) hF 57 dX1_manyIdle_50 rfl ?_ ?_
          · refine s_iconst (pc := 57) hF dX1_manyIdle_57 (0 : Int32) (by decide) ?_
            exact SK.sb (gX1_manyIdle_J58 hF ih l0 l1 l2 (0 : Int32) M z) ⟨rfl, ⟨rfl, ⟨rfl, trivial⟩⟩⟩
          · refine s_iconst (pc := 53) hF dX1_manyIdle_53 (1 : Int32) (by decide) ?_
            refine s_goto (pc := 54) hF 58 dX1_manyIdle_54 rfl ?_
            exact SK.sb (gX1_manyIdle_J58 hF ih l0 l1 l2 (1 : Int32) M z) ⟨rfl, ⟨rfl, ⟨rfl, trivial⟩⟩⟩
def fX1_manyIdle (a0 : Option Nat) (M : Mp) (z : Nat) : Rs Int32 := fX1_manyIdle_L4 FU a0 (0 : Int32) (0 : Int32) M z
theorem gX1_manyIdle {G : Cx} {F : Option Value × Mp × Nat} (hF : FX G cX1_manyIdle 4 RX1 (Option.some Jvm.ClassFile.FieldType.int) "manyIdle" 0 0) (a0 : Option Nat) (M : Mp) (z : Nat) : SK G F 4 eI 0 [some (va_rf a0), none, none, none] [] M z (fX1_manyIdle a0 M z) := by
  unfold fX1_manyIdle
  refine s_iconst (pc := 0) hF dX1_manyIdle_0 (0 : Int32) (by decide) ?_
  refine s_istore_n (L9 := [some (va_rf a0), some (.int (0 : Int32)), none, none]) (pc := 1) hF dX1_manyIdle_1 rfl (Nat.le_of_ble_eq_true rfl) rfl ?_
  refine s_iconst (pc := 2) hF dX1_manyIdle_2 (0 : Int32) (by decide) ?_
  refine s_istore_n (L9 := [some (va_rf a0), some (.int (0 : Int32)), some (.int (0 : Int32)), none]) (pc := 3) hF dX1_manyIdle_3 rfl (Nat.le_of_ble_eq_true rfl) rfl ?_
  exact SK.sb (gX1_manyIdle_L4 hF FU a0 (0 : Int32) (0 : Int32) M z) ⟨rfl, ⟨rfl, ⟨rfl, trivial⟩⟩⟩
theorem mX1_manyIdle (a0 : Option Nat) : MT yX1_manyIdle cX1_manyIdle 4 (Option.some Jvm.ClassFile.FieldType.int) 0 0 eI [va_rf a0] (fX1_manyIdle a0) :=
  MT.of (L0 := [some (va_rf a0), none, none, none]) (by decide) ⟨ct _, trivial⟩ (Nat.le_of_ble_eq_true rfl) rfl (fun _ _ hF M z => gX1_manyIdle hF a0 M z)

def fX1_manyLost_J39 (r4 : Option Nat → Int32 → Int32 → Mp → Nat → Rs Int32) (l0 : Option Nat) (l2 : Int32) (s0 : Int32) (s1 : Int32) (M : Mp) (z : Nat) : Rs Int32 := r4 l0 (s0 + s1) (l2 + 1) M z

theorem gX1_manyLost_J39 {G : Cx} {F : Option Value × Mp × Nat}  {r4 : Option Nat → Int32 → Int32 → Mp → Nat → Rs Int32}(hF : FX G cX1_manyLost 3 RX1 (Option.some Jvm.ClassFile.FieldType.int) "manyLost" 0 0) (hr4 : ∀ l0 l1 l2 M z, SK G F 3 eI 4 [some (va_rf l0), some (.int l1), some (.int l2)] [] M z (r4 l0 l1 l2 M z)) (l0 : Option Nat) (l2 : Int32) (s0 : Int32) (s1 : Int32) (M : Mp) (z : Nat) : SK G F 3 eI 39 [some (va_rf l0), none, some (.int l2)] [.int s1, .int s0] M z (fX1_manyLost_J39 r4 l0 l2 s0 s1 M z) := by
  unfold fX1_manyLost_J39
  refine s_iadd (pc := 39) hF dX1_manyLost_39 ?_
  refine s_istore_n (L9 := [some (va_rf l0), some (.int (s0 + s1)), some (.int l2)]) (pc := 40) hF dX1_manyLost_40 rfl (Nat.le_of_ble_eq_true rfl) rfl ?_
  refine s_iinc (v := l2 + 1) (L9 := [some (va_rf l0), some (.int (s0 + s1)), some (.int (l2 + 1))]) (pc := 41) hF dX1_manyLost_41 rfl rfl (Nat.le_of_ble_eq_true rfl) rfl ?_
  refine s_goto (pc := 44) hF 4 dX1_manyLost_44 rfl ?_
  exact SK.sb (hr4 l0 (s0 + s1) (l2 + 1) M z) ⟨rfl, ⟨rfl, ⟨rfl, trivial⟩⟩⟩

def fX1_manyLost_L4 : Nat → Option Nat → Int32 → Int32 → Mp → Nat → Rs Int32
  | 0, _, _, _, _, _ => none
  | fu + 1, l0, l1, l2, M, z => (gi M l0 [1] 0).bind fun v1 =>
if l2 < v1 then
  ((gr M l0 [1] 2).bind fun v2 =>
(ai M 0 v2 l2).bind fun v3 =>
if v3 = (2 : Int32) then
  ((gr M l0 [1] 16).bind fun v4 =>
(ai M 0 v4 l2).bind fun v5 =>
if v5 = (-9 : Int32) then
  (fX1_manyLost_J39 (fX1_manyLost_L4 fu) l0 l2 l1 (1 : Int32) M z)
else
  (fX1_manyLost_J39 (fX1_manyLost_L4 fu) l0 l2 l1 (0 : Int32) M z))
else
  (fX1_manyLost_J39 (fX1_manyLost_L4 fu) l0 l2 l1 (0 : Int32) M z))
else
  (some (l1, M, 0, 0))

theorem gX1_manyLost_L4 {G : Cx} {F : Option Value × Mp × Nat} (hF : FX G cX1_manyLost 3 RX1 (Option.some Jvm.ClassFile.FieldType.int) "manyLost" 0 0) : ∀ (fu : Nat) (l0 : Option Nat) (l1 : Int32) (l2 : Int32) (M : Mp) (z : Nat), SK G F 3 eI 4 [some (va_rf l0), some (.int l1), some (.int l2)] [] M z (fX1_manyLost_L4 fu l0 l1 l2 M z) := by
  intro fu
  induction fu with
  | zero => intros; exact SK.fail
  | succ fu ih =>
    intro l0 l1 l2 M z
    rw [fX1_manyLost_L4]
    refine s_iload_n (pc := 4) hF dX1_manyLost_4 rfl rfl ?_
    refine s_aload_n (pc := 5) hF dX1_manyLost_5 rfl rfl ?_
    refine s_geti (pc := 6) hF (fl_X1_98 hF) dX1_manyLost_6 (fun v1 => ?_)
    refine s_icmp_ge (pc := 9) hF 47 dX1_manyLost_9 rfl ?_ ?_
    · refine s_iload_n (pc := 47) hF dX1_manyLost_47 rfl rfl ?_
      exact s_iret (pc := 48) hF dX1_manyLost_48
    · refine s_iload_n (pc := 12) hF dX1_manyLost_12 rfl rfl ?_
      refine s_aload_n (pc := 13) hF dX1_manyLost_13 rfl rfl ?_
      refine s_getr (pc := 14) hF (fl_X1_13 hF) dX1_manyLost_14 (fun v2 => ?_)
      refine s_iload_n (pc := 17) hF dX1_manyLost_17 rfl rfl ?_
      refine s_iald (pc := 18) hF dX1_manyLost_18 (fun v3 => ?_)
      refine s_iconst (pc := 19) hF dX1_manyLost_19 (2 : Int32) (by decide) ?_
      refine s_icmp_ne (pc := 20) hF 38 dX1_manyLost_20 rfl ?_ ?_
      · refine s_iconst (pc := 38) hF dX1_manyLost_38 (0 : Int32) (by decide) ?_
        exact SK.sb (gX1_manyLost_J39 hF ih l0 l2 l1 (0 : Int32) M z) ⟨rfl, ⟨rfl, trivial⟩⟩
      · refine s_aload_n (pc := 23) hF dX1_manyLost_23 rfl rfl ?_
        refine s_getr (pc := 24) hF (fl_X1_52 hF) dX1_manyLost_24 (fun v4 => ?_)
        refine s_iload_n (pc := 27) hF dX1_manyLost_27 rfl rfl ?_
        refine s_iald (pc := 28) hF dX1_manyLost_28 (fun v5 => ?_)
        refine s_bipush (pc := 29) hF dX1_manyLost_29 (-9 : Int32) (by decide) ?_
        refine s_icmp_ne (pc := 31) hF 38 dX1_manyLost_31 rfl ?_ ?_
        · refine s_iconst (pc := 38) hF dX1_manyLost_38 (0 : Int32) (by decide) ?_
          exact SK.sb (gX1_manyLost_J39 hF ih l0 l2 l1 (0 : Int32) M z) ⟨rfl, ⟨rfl, trivial⟩⟩
        · refine s_iconst (pc := 34) hF dX1_manyLost_34 (1 : Int32) (by decide) ?_
          refine s_goto (pc := 35) hF 39 dX1_manyLost_35 rfl ?_
          exact SK.sb (gX1_manyLost_J39 hF ih l0 l2 l1 (1 : Int32) M z) ⟨rfl, ⟨rfl, trivial⟩⟩
def fX1_manyLost (a0 : Option Nat) (M : Mp) (z : Nat) : Rs Int32 := fX1_manyLost_L4 FU a0 (0 : Int32) (0 : Int32) M z
theorem gX1_manyLost {G : Cx} {F : Option Value × Mp × Nat} (hF : FX G cX1_manyLost 3 RX1 (Option.some Jvm.ClassFile.FieldType.int) "manyLost" 0 0) (a0 : Option Nat) (M : Mp) (z : Nat) : SK G F 3 eI 0 [some (va_rf a0), none, none] [] M z (fX1_manyLost a0 M z) := by
  unfold fX1_manyLost
  refine s_iconst (pc := 0) hF dX1_manyLost_0 (0 : Int32) (by decide) ?_
  refine s_istore_n (L9 := [some (va_rf a0), some (.int (0 : Int32)), none]) (pc := 1) hF dX1_manyLost_1 rfl (Nat.le_of_ble_eq_true rfl) rfl ?_
  refine s_iconst (pc := 2) hF dX1_manyLost_2 (0 : Int32) (by decide) ?_
  refine s_istore_n (L9 := [some (va_rf a0), some (.int (0 : Int32)), some (.int (0 : Int32))]) (pc := 3) hF dX1_manyLost_3 rfl (Nat.le_of_ble_eq_true rfl) rfl ?_
  exact SK.sb (gX1_manyLost_L4 hF FU a0 (0 : Int32) (0 : Int32) M z) ⟨rfl, ⟨rfl, ⟨rfl, trivial⟩⟩⟩
theorem mX1_manyLost (a0 : Option Nat) : MT yX1_manyLost cX1_manyLost 3 (Option.some Jvm.ClassFile.FieldType.int) 0 0 eI [va_rf a0] (fX1_manyLost a0) :=
  MT.of (L0 := [some (va_rf a0), none, none]) (by decide) ⟨ct _, trivial⟩ (Nat.le_of_ble_eq_true rfl) rfl (fun _ _ hF M z => gX1_manyLost hF a0 M z)

theorem cw_X1_manyOfKind : CWm yX1_manyOfKind cX1_manyOfKind 4 (Option.some Jvm.ClassFile.FieldType.int) 1 := ⟨q1337, q63, by decide +kernel, by decide +kernel, by decide +kernel⟩
theorem cw_X1_manyTexts : CWm yX1_manyTexts cX1_manyTexts 5 (Option.some Jvm.ClassFile.FieldType.int) 1 := ⟨q1341, q63, by decide +kernel, by decide +kernel, by decide +kernel⟩
theorem cw_X1_manyRings : CWm yX1_manyRings cX1_manyRings 3 (Option.some Jvm.ClassFile.FieldType.int) 0 := ⟨q1345, q63, by decide +kernel, by decide +kernel, by decide +kernel⟩
theorem cw_X1_manyBroken : CWm yX1_manyBroken cX1_manyBroken 3 (Option.some Jvm.ClassFile.FieldType.int) 0 := ⟨q1349, q63, by decide +kernel, by decide +kernel, by decide +kernel⟩
theorem cw_X1_manyIdle : CWm yX1_manyIdle cX1_manyIdle 4 (Option.some Jvm.ClassFile.FieldType.int) 0 := ⟨q1353, q63, by decide +kernel, by decide +kernel, by decide +kernel⟩
theorem cw_X1_manyLost : CWm yX1_manyLost cX1_manyLost 3 (Option.some Jvm.ClassFile.FieldType.int) 0 := ⟨q1357, q63, by decide +kernel, by decide +kernel, by decide +kernel⟩
def fX1_many (a0 : Option Nat) (a1 : Int32) (M : Mp) (z : Nat) : Rs Int32 := if ckc M a0 [1] = true then
  (cb (fX1_findArticles a0 M z) z fun _ M2 z3 =>
if a1 = 0 then
  ((gi M2 a0 [1] 0).bind fun v4 =>
some (v4, M2, 0, 0))
else if a1 = 1 then
  ((gi M2 a0 [1] 10).bind fun v5 =>
some (v5, M2, 0, 0))
else if a1 = 2 then
  (if ckc M2 a0 [1] = true then
  (cb (fX1_manyOfKind a0 (0 : Int32) M2 z3) z3 fun v6 M7 z8 =>
some (v6, M7, 0, 0))
else none)
else if a1 = 3 then
  (if ckc M2 a0 [1] = true then
  (cb (fX1_manyOfKind a0 (1 : Int32) M2 z3) z3 fun v9 M10 z11 =>
some (v9, M10, 0, 0))
else none)
else if a1 = 4 then
  ((gi M2 a0 [1] 21).bind fun v12 =>
some (v12, M2, 0, 0))
else if a1 = 5 then
  (if ckc M2 a0 [1] = true then
  (cb (fX1_manyTexts a0 (1 : Int32) M2 z3) z3 fun v13 M14 z15 =>
some (v13, M14, 0, 0))
else none)
else if a1 = 6 then
  (if ckc M2 a0 [1] = true then
  (cb (fX1_manyTexts a0 (0 : Int32) M2 z3) z3 fun v16 M17 z18 =>
some (v16, M17, 0, 0))
else none)
else if a1 = 7 then
  ((gi M2 a0 [1] 28).bind fun v19 =>
some (v19, M2, 0, 0))
else if a1 = 8 then
  (if ckc M2 a0 [1] = true then
  (cb (fX1_manyRings a0 M2 z3) z3 fun v20 M21 z22 =>
some (v20, M21, 0, 0))
else none)
else if a1 = 9 then
  (if ckc M2 a0 [1] = true then
  (cb (fX1_manyBroken a0 M2 z3) z3 fun v23 M24 z25 =>
some (v23, M24, 0, 0))
else none)
else if a1 = 10 then
  (if ckc M2 a0 [1] = true then
  (cb (fX1_manyIdle a0 M2 z3) z3 fun v26 M27 z28 =>
some (v26, M27, 0, 0))
else none)
else if a1 = 11 then
  (if ckc M2 a0 [1] = true then
  (cb (fX1_manyLost a0 M2 z3) z3 fun v29 M30 z31 =>
some (v29, M30, 0, 0))
else none)
else 
  (some ((-2 : Int32), M2, 0, 0)))
else none
theorem gX1_many {G : Cx} {F : Option Value × Mp × Nat} (hF : FX G cX1_many 2 RX1 (Option.some Jvm.ClassFile.FieldType.int) "many" 6 142) (a0 : Option Nat) (a1 : Int32) (M : Mp) (z : Nat) : SK G F 2 eI 0 [some (va_rf a0), some (.int a1)] [] M z (fX1_many a0 a1 M z) := by
  unfold fX1_many
  refine s_aload_n (pc := 0) hF dX1_many_0 rfl rfl ?_
  refine s_callV (pc := 1) (As := []) (st := []) (stf := fun r9 => []) hF (mX1_findArticles a0) cw_X1_findArticles q1278 q1280 (List.forall_mem_cons.mpr ⟨⟨(RX1, TX1, 34), rfl, qs42⟩, fun _ h9 => absurd h9 List.not_mem_nil⟩) rfl ⟨Nat.le_of_ble_eq_true rfl, Nat.le_of_ble_eq_true rfl⟩ ⟨trivial, Nat.le_of_ble_eq_true rfl⟩ dX1_many_1 rfl (fun _ => rfl) (fun v1 M2 z3 => ?_)
  refine s_iload_n (pc := 4) hF dX1_many_4 rfl rfl ?_
  refine s_case (v := 0) (pc := 5) hF 68 dX1_many_5 (by decide) rfl rfl ?_ (fun h9_0 => ?_)
  · refine s_aload_n (pc := 68) hF dX1_many_68 rfl rfl ?_
    refine s_geti (pc := 69) hF (fl_X1_98 hF) dX1_many_69 (fun v4 => ?_)
    exact s_iret (pc := 72) hF dX1_many_72
  refine s_case (v := 1) (pc := 5) hF 73 dX1_many_5 (by decide) rfl rfl ?_ (fun h9_1 => ?_)
  · refine s_aload_n (pc := 73) hF dX1_many_73 rfl rfl ?_
    refine s_geti (pc := 74) hF (fl_X1_114 hF) dX1_many_74 (fun v5 => ?_)
    exact s_iret (pc := 77) hF dX1_many_77
  refine s_case (v := 2) (pc := 5) hF 78 dX1_many_5 (by decide) rfl rfl ?_ (fun h9_2 => ?_)
  · refine s_aload_n (pc := 78) hF dX1_many_78 rfl rfl ?_
    refine s_iconst (pc := 79) hF dX1_many_79 (0 : Int32) (by decide) ?_
    refine s_callV (pc := 80) (As := [.int (0 : Int32)]) (st := []) (stf := fun r9 => .int r9 :: []) hF (mX1_manyOfKind a0 (0 : Int32)) cw_X1_manyOfKind q1334 q1336 (List.forall_mem_cons.mpr ⟨⟨(RX1, TX1, 34), rfl, qs52⟩, fun _ h9 => absurd h9 List.not_mem_nil⟩) rfl ⟨Nat.le_of_ble_eq_true rfl, Nat.le_of_ble_eq_true rfl⟩ ⟨trivial, Nat.le_of_ble_eq_true rfl⟩ dX1_many_80 rfl (fun _ => rfl) (fun v6 M7 z8 => ?_)
    exact s_iret (pc := 83) hF dX1_many_83
  refine s_case (v := 3) (pc := 5) hF 84 dX1_many_5 (by decide) rfl rfl ?_ (fun h9_3 => ?_)
  · refine s_aload_n (pc := 84) hF dX1_many_84 rfl rfl ?_
    refine s_iconst (pc := 85) hF dX1_many_85 (1 : Int32) (by decide) ?_
    refine s_callV (pc := 86) (As := [.int (1 : Int32)]) (st := []) (stf := fun r9 => .int r9 :: []) hF (mX1_manyOfKind a0 (1 : Int32)) cw_X1_manyOfKind q1334 q1336 (List.forall_mem_cons.mpr ⟨⟨(RX1, TX1, 34), rfl, qs52⟩, fun _ h9 => absurd h9 List.not_mem_nil⟩) rfl ⟨Nat.le_of_ble_eq_true rfl, Nat.le_of_ble_eq_true rfl⟩ ⟨trivial, Nat.le_of_ble_eq_true rfl⟩ dX1_many_86 rfl (fun _ => rfl) (fun v9 M10 z11 => ?_)
    exact s_iret (pc := 89) hF dX1_many_89
  refine s_case (v := 4) (pc := 5) hF 90 dX1_many_5 (by decide) rfl rfl ?_ (fun h9_4 => ?_)
  · refine s_aload_n (pc := 90) hF dX1_many_90 rfl rfl ?_
    refine s_geti (pc := 91) hF (fl_X1_153 hF) dX1_many_91 (fun v12 => ?_)
    exact s_iret (pc := 94) hF dX1_many_94
  refine s_case (v := 5) (pc := 5) hF 95 dX1_many_5 (by decide) rfl rfl ?_ (fun h9_5 => ?_)
  · refine s_aload_n (pc := 95) hF dX1_many_95 rfl rfl ?_
    refine s_iconst (pc := 96) hF dX1_many_96 (1 : Int32) (by decide) ?_
    refine s_callV (pc := 97) (As := [.int (1 : Int32)]) (st := []) (stf := fun r9 => .int r9 :: []) hF (mX1_manyTexts a0 (1 : Int32)) cw_X1_manyTexts q1338 q1340 (List.forall_mem_cons.mpr ⟨⟨(RX1, TX1, 34), rfl, qs53⟩, fun _ h9 => absurd h9 List.not_mem_nil⟩) rfl ⟨Nat.le_of_ble_eq_true rfl, Nat.le_of_ble_eq_true rfl⟩ ⟨trivial, Nat.le_of_ble_eq_true rfl⟩ dX1_many_97 rfl (fun _ => rfl) (fun v13 M14 z15 => ?_)
    exact s_iret (pc := 100) hF dX1_many_100
  refine s_case (v := 6) (pc := 5) hF 101 dX1_many_5 (by decide) rfl rfl ?_ (fun h9_6 => ?_)
  · refine s_aload_n (pc := 101) hF dX1_many_101 rfl rfl ?_
    refine s_iconst (pc := 102) hF dX1_many_102 (0 : Int32) (by decide) ?_
    refine s_callV (pc := 103) (As := [.int (0 : Int32)]) (st := []) (stf := fun r9 => .int r9 :: []) hF (mX1_manyTexts a0 (0 : Int32)) cw_X1_manyTexts q1338 q1340 (List.forall_mem_cons.mpr ⟨⟨(RX1, TX1, 34), rfl, qs53⟩, fun _ h9 => absurd h9 List.not_mem_nil⟩) rfl ⟨Nat.le_of_ble_eq_true rfl, Nat.le_of_ble_eq_true rfl⟩ ⟨trivial, Nat.le_of_ble_eq_true rfl⟩ dX1_many_103 rfl (fun _ => rfl) (fun v16 M17 z18 => ?_)
    exact s_iret (pc := 106) hF dX1_many_106
  refine s_case (v := 7) (pc := 5) hF 107 dX1_many_5 (by decide) rfl rfl ?_ (fun h9_7 => ?_)
  · refine s_aload_n (pc := 107) hF dX1_many_107 rfl rfl ?_
    refine s_geti (pc := 108) hF (fl_X1_162 hF) dX1_many_108 (fun v19 => ?_)
    exact s_iret (pc := 111) hF dX1_many_111
  refine s_case (v := 8) (pc := 5) hF 112 dX1_many_5 (by decide) rfl rfl ?_ (fun h9_8 => ?_)
  · refine s_aload_n (pc := 112) hF dX1_many_112 rfl rfl ?_
    refine s_callV (pc := 113) (As := []) (st := []) (stf := fun r9 => .int r9 :: []) hF (mX1_manyRings a0) cw_X1_manyRings q1342 q1344 (List.forall_mem_cons.mpr ⟨⟨(RX1, TX1, 34), rfl, qs54⟩, fun _ h9 => absurd h9 List.not_mem_nil⟩) rfl ⟨Nat.le_of_ble_eq_true rfl, Nat.le_of_ble_eq_true rfl⟩ ⟨trivial, Nat.le_of_ble_eq_true rfl⟩ dX1_many_113 rfl (fun _ => rfl) (fun v20 M21 z22 => ?_)
    exact s_iret (pc := 116) hF dX1_many_116
  refine s_case (v := 9) (pc := 5) hF 117 dX1_many_5 (by decide) rfl rfl ?_ (fun h9_9 => ?_)
  · refine s_aload_n (pc := 117) hF dX1_many_117 rfl rfl ?_
    refine s_callV (pc := 118) (As := []) (st := []) (stf := fun r9 => .int r9 :: []) hF (mX1_manyBroken a0) cw_X1_manyBroken q1346 q1348 (List.forall_mem_cons.mpr ⟨⟨(RX1, TX1, 34), rfl, qs55⟩, fun _ h9 => absurd h9 List.not_mem_nil⟩) rfl ⟨Nat.le_of_ble_eq_true rfl, Nat.le_of_ble_eq_true rfl⟩ ⟨trivial, Nat.le_of_ble_eq_true rfl⟩ dX1_many_118 rfl (fun _ => rfl) (fun v23 M24 z25 => ?_)
    exact s_iret (pc := 121) hF dX1_many_121
  refine s_case (v := 10) (pc := 5) hF 122 dX1_many_5 (by decide) rfl rfl ?_ (fun h9_10 => ?_)
  · refine s_aload_n (pc := 122) hF dX1_many_122 rfl rfl ?_
    refine s_callV (pc := 123) (As := []) (st := []) (stf := fun r9 => .int r9 :: []) hF (mX1_manyIdle a0) cw_X1_manyIdle q1350 q1352 (List.forall_mem_cons.mpr ⟨⟨(RX1, TX1, 34), rfl, qs56⟩, fun _ h9 => absurd h9 List.not_mem_nil⟩) rfl ⟨Nat.le_of_ble_eq_true rfl, Nat.le_of_ble_eq_true rfl⟩ ⟨trivial, Nat.le_of_ble_eq_true rfl⟩ dX1_many_123 rfl (fun _ => rfl) (fun v26 M27 z28 => ?_)
    exact s_iret (pc := 126) hF dX1_many_126
  refine s_case (v := 11) (pc := 5) hF 127 dX1_many_5 (by decide) rfl rfl ?_ (fun h9_11 => ?_)
  · refine s_aload_n (pc := 127) hF dX1_many_127 rfl rfl ?_
    refine s_callV (pc := 128) (As := []) (st := []) (stf := fun r9 => .int r9 :: []) hF (mX1_manyLost a0) cw_X1_manyLost q1354 q1356 (List.forall_mem_cons.mpr ⟨⟨(RX1, TX1, 34), rfl, qs57⟩, fun _ h9 => absurd h9 List.not_mem_nil⟩) rfl ⟨Nat.le_of_ble_eq_true rfl, Nat.le_of_ble_eq_true rfl⟩ ⟨trivial, Nat.le_of_ble_eq_true rfl⟩ dX1_many_128 rfl (fun _ => rfl) (fun v29 M30 z31 => ?_)
    exact s_iret (pc := 131) hF dX1_many_131
  refine s_dflt (pc := 5) hF 132 dX1_many_5 (by
    have := lv_neT (a := 0) h9_0 rfl
    have := lv_neT (a := 1) h9_1 rfl
    have := lv_neT (a := 2) h9_2 rfl
    have := lv_neT (a := 3) h9_3 rfl
    have := lv_neT (a := 4) h9_4 rfl
    have := lv_neT (a := 5) h9_5 rfl
    have := lv_neT (a := 6) h9_6 rfl
    have := lv_neT (a := 7) h9_7 rfl
    have := lv_neT (a := 8) h9_8 rfl
    have := lv_neT (a := 9) h9_9 rfl
    have := lv_neT (a := 10) h9_10 rfl
    have := lv_neT (a := 11) h9_11 rfl
    omega) rfl ?_
  refine s_bipush (pc := 132) hF dX1_many_132 (-2 : Int32) (by decide) ?_
  exact s_iret (pc := 134) hF dX1_many_134
theorem mX1_many (a0 : Option Nat) (a1 : Int32) : MT yX1_many cX1_many 2 (Option.some Jvm.ClassFile.FieldType.int) 6 142 eI [va_rf a0, .int a1] (fX1_many a0 a1) :=
  MT.of (L0 := [some (va_rf a0), some (.int a1)]) (by decide) ⟨ct _, ⟨rfl, trivial⟩⟩ (Nat.le_of_ble_eq_true rfl) rfl (fun _ _ hF M z => gX1_many hF a0 a1 M z)
