set_option maxRecDepth 100000
theorem fl_X5_127 {G : Cx} {nL fr lc : Nat} {cc : ByteArray} {ret : Option FieldType} {nm : String} (hF : FX G cc nL RX5 ret nm fr lc) : ∀ c ∈ [5], GF G RX5 127 c 4 := by
  obtain ⟨⟨p, l, e, R, s, m, args, below, meth, c0⟩, A, D, dA, mi⟩ := G
  obtain ⟨hx, hb, hml, hown, hts, hr, hlk, hK, hnm, hfr, hlc⟩ := hF
  exact List.forall_mem_cons.mpr ⟨⟨RX5, TX5, 8, "StoryColumns$Story", rfl, in_X5, Nat.le_of_ble_eq_true rfl, Or.inl (hts _ q705), fun _ h => h⟩, fun _ h9 => absurd h9 List.not_mem_nil⟩
def fX5_isBroken (a0 : Option Nat) (M : Mp) (z : Nat) : Rs Int32 := if ckc M a0 [5] = true then
  (cb (fX5_goer a0 M z) z fun v1 M2 z3 =>
if v1 = none then
  (some ((0 : Int32), M2, 0, 0))
else
  ((gr M2 a0 [5] 4).bind fun v4 =>
if v4 = none then
  (some ((1 : Int32), M2, 0, 0))
else
  (some ((0 : Int32), M2, 0, 0))))
else none
theorem gX5_isBroken {G : Cx} {F : Option Value × Mp × Nat} (hF : FX G cX5_isBroken 1 RX5 (Option.some Jvm.ClassFile.FieldType.boolean) "isBroken" 4 84) (a0 : Option Nat) (M : Mp) (z : Nat) : SK G F 1 eI 0 [some (va_rf a0)] [] M z (fX5_isBroken a0 M z) := by
  unfold fX5_isBroken
  refine s_aload_n (pc := 0) hF dX5_isBroken_0 rfl rfl ?_
  refine s_callV (pc := 1) (As := []) (st := []) (stf := fun r9 => va_rf r9 :: []) hF (mX5_goer a0) cw_X5_goer q813 q814 (List.forall_mem_cons.mpr ⟨⟨(RX5, TX5, 8), rfl, q815⟩, fun _ h9 => absurd h9 List.not_mem_nil⟩) rfl ⟨Nat.le_of_ble_eq_true rfl, Nat.le_of_ble_eq_true rfl⟩ ⟨trivial, Nat.le_of_ble_eq_true rfl⟩ dX5_isBroken_1 rfl (fun _ => rfl) (fun v1 M2 z3 => ?_)
  refine s_ifnull (pc := 4) hF 18 dX5_isBroken_4 rfl ?_ ?_
  · refine s_iconst (pc := 18) hF dX5_isBroken_18 (0 : Int32) (by decide) ?_
    exact s_zretL (pc := 19) hF dX5_isBroken_19 (by decide)
  · refine s_aload_n (pc := 7) hF dX5_isBroken_7 rfl rfl ?_
    refine s_getr (pc := 8) hF (fl_X5_127 hF) dX5_isBroken_8 (fun v4 => ?_)
    refine s_ifnonnull (pc := 11) hF 18 dX5_isBroken_11 rfl ?_ ?_
    · refine s_iconst (pc := 18) hF dX5_isBroken_18 (0 : Int32) (by decide) ?_
      exact s_zretL (pc := 19) hF dX5_isBroken_19 (by decide)
    · refine s_iconst (pc := 14) hF dX5_isBroken_14 (1 : Int32) (by decide) ?_
      refine s_goto (pc := 15) hF 19 dX5_isBroken_15 rfl ?_
      exact s_zretL (pc := 19) hF dX5_isBroken_19 (by decide)
theorem mX5_isBroken (a0 : Option Nat) : MT yX5_isBroken cX5_isBroken 1 (Option.some Jvm.ClassFile.FieldType.boolean) 4 84 eI [va_rf a0] (fX5_isBroken a0) :=
  MT.of (L0 := [some (va_rf a0)]) (by decide) ⟨ct _, trivial⟩ (Nat.le_of_ble_eq_true rfl) rfl (fun _ _ hF M z => gX5_isBroken hF a0 M z)

theorem fl_X0_244 {G : Cx} {nL fr lc : Nat} {cc : ByteArray} {ret : Option FieldType} {nm : String} (hF : FX G cc nL RX0 ret nm fr lc) : ∀ c ∈ [5], GF G RX0 244 c 0 := by
  obtain ⟨⟨p, l, e, R, s, m, args, below, meth, c0⟩, A, D, dA, mi⟩ := G
  obtain ⟨hx, hb, hml, hown, hts, hr, hlk, hK, hnm, hfr, hlc⟩ := hF
  exact List.forall_mem_cons.mpr ⟨⟨RX5, TX5, 8, "StoryColumns$Story", rfl, in_X5, Nat.le_of_ble_eq_true rfl, Or.inr ⟨_, (va_Nw.use rfl (hK.2.1 _ n_q695))⟩, fun _ h => h⟩, fun _ h9 => absurd h9 List.not_mem_nil⟩
theorem cw_X5_words : CWm yX5_words cX5_words 4 (Option.some Jvm.ClassFile.FieldType.int) 0 := ⟨q854, q74, by decide +kernel, by decide +kernel, by decide +kernel⟩
theorem cw_X5_pictures : CWm yX5_pictures cX5_pictures 4 (Option.some Jvm.ClassFile.FieldType.int) 0 := ⟨q858, q74, by decide +kernel, by decide +kernel, by decide +kernel⟩
theorem fl_X0_250 {G : Cx} {nL fr lc : Nat} {cc : ByteArray} {ret : Option FieldType} {nm : String} (hF : FX G cc nL RX0 ret nm fr lc) : ∀ c ∈ [5], GF G RX0 250 c 3 := by
  obtain ⟨⟨p, l, e, R, s, m, args, below, meth, c0⟩, A, D, dA, mi⟩ := G
  obtain ⟨hx, hb, hml, hown, hts, hr, hlk, hK, hnm, hfr, hlc⟩ := hF
  exact List.forall_mem_cons.mpr ⟨⟨RX5, TX5, 8, "StoryColumns$Story", rfl, in_X5, Nat.le_of_ble_eq_true rfl, Or.inr ⟨_, (va_Nw.use rfl (hK.2.1 _ n_q703))⟩, fun _ h => h⟩, fun _ h9 => absurd h9 List.not_mem_nil⟩
theorem cw_X0_numberOf : CWm yX0_numberOf cX0_numberOf 1 (Option.some Jvm.ClassFile.FieldType.int) 1 := ⟨q861, q59, by decide +kernel, by decide +kernel, by decide +kernel⟩
theorem cw_X5_isBroken : CWm yX5_isBroken cX5_isBroken 1 (Option.some Jvm.ClassFile.FieldType.boolean) 0 := ⟨q865, q74, by decide +kernel, by decide +kernel, by decide +kernel⟩
theorem cw_X0_isStory : CWm yX0_isStory cX0_isStory 2 (Option.some Jvm.ClassFile.FieldType.boolean) 1 := ⟨q850, q59, by decide +kernel, by decide +kernel, by decide +kernel⟩
def fX0_ofStory (a0 : Option Nat) (a1 : Int32) (a2 : Int32) (M : Mp) (z : Nat) : Rs Int32 := if ckc M a0 [0] = true then
  (cb (fX0_isStory a0 a1 M z) z fun v1 M2 z3 =>
if v1 = 0 then
  (some ((-1 : Int32), M2, 0, 0))
else
  ((gr M2 a0 [0] 3).bind fun v4 =>
if ckc M2 v4 [11] = true then
  (cb (fJ2_get v4 a1 M2 z3) z3 fun v5 M6 z7 =>
if cst M6 v5 [5] = true then
  (if a2 = 0 then
  ((gr M6 v5 [5] 0).bind fun v8 =>
if v8 = none then
  (some ((-9 : Int32), M6, 0, 0))
else
  ((gr M6 v5 [5] 0).bind fun v9 =>
(gi M6 v9 [3] 0).bind fun v10 =>
some (v10, M6, 0, 0)))
else if a2 = 1 then
  ((gr M6 v5 [5] 1).bind fun v11 =>
if ckc M6 v11 [11] = true then
  (cb (fJ2_size v11 M6 z7) z7 fun v12 M13 z14 =>
some (v12, M13, 0, 0))
else none)
else if a2 = 2 then
  (if ckc M6 v5 [5] = true then
  (cb (fX5_words v5 M6 z7) z7 fun v15 M16 z17 =>
some (v15, M16, 0, 0))
else none)
else if a2 = 3 then
  (if ckc M6 v5 [5] = true then
  (cb (fX5_pictures v5 M6 z7) z7 fun v18 M19 z20 =>
some (v18, M19, 0, 0))
else none)
else if a2 = 4 then
  ((gi M6 v5 [5] 3).bind fun v21 =>
some (v21, M6, 0, 0))
else if a2 = 5 then
  ((gr M6 v5 [5] 4).bind fun v22 =>
cb (fX0_numberOf v22 M6 z7) z7 fun v23 M24 z25 =>
some (v23, M24, 0, 0))
else if a2 = 6 then
  ((gr M6 v5 [5] 5).bind fun v26 =>
cb (fX0_numberOf v26 M6 z7) z7 fun v27 M28 z29 =>
some (v27, M28, 0, 0))
else if a2 = 7 then
  ((gi M6 v5 [5] 6).bind fun v30 =>
some (v30, M6, 0, 0))
else if a2 = 8 then
  (if ckc M6 v5 [5] = true then
  (cb (fX5_isBroken v5 M6 z7) z7 fun v31 M32 z33 =>
if v31 = 0 then
  (some ((0 : Int32), M32, 0, 0))
else
  (some ((1 : Int32), M32, 0, 0)))
else none)
else 
  (some ((-2 : Int32), M6, 0, 0)))
else none)
else none))
else none
theorem gX0_ofStory {G : Cx} {F : Option Value × Mp × Nat} (hF : FX G cX0_ofStory 4 RX0 (Option.some Jvm.ClassFile.FieldType.int) "ofStory" 15 395) (a0 : Option Nat) (a1 : Int32) (a2 : Int32) (M : Mp) (z : Nat) : SK G F 4 eI 0 [some (va_rf a0), some (.int a1), some (.int a2), none] [] M z (fX0_ofStory a0 a1 a2 M z) := by
  unfold fX0_ofStory
  refine s_aload_n (pc := 0) hF dX0_ofStory_0 rfl rfl ?_
  refine s_iload_n (pc := 1) hF dX0_ofStory_1 rfl rfl ?_
  refine s_callV (pc := 2) (As := [.int a1]) (st := []) (stf := fun r9 => .int r9 :: []) hF (mX0_isStory a0 a1) cw_X0_isStory q847 q849 (List.forall_mem_cons.mpr ⟨⟨(RX0, TX0, 6), rfl, qs18⟩, fun _ h9 => absurd h9 List.not_mem_nil⟩) rfl ⟨Nat.le_of_ble_eq_true rfl, Nat.le_of_ble_eq_true rfl⟩ ⟨trivial, Nat.le_of_ble_eq_true rfl⟩ dX0_ofStory_2 rfl (fun _ => rfl) (fun v1 M2 z3 => ?_)
  refine s_if_ne (pc := 5) hF 10 dX0_ofStory_5 rfl ?_ ?_
  · refine s_aload_n (pc := 10) hF dX0_ofStory_10 rfl rfl ?_
    refine s_getr (pc := 11) hF (fl_X0_21 hF) dX0_ofStory_11 (fun v4 => ?_)
    refine s_iload_n (pc := 14) hF dX0_ofStory_14 rfl rfl ?_
    refine s_callF (pc := 15) (As := [.int a1]) (st := []) (stf := fun r9 => va_rf r9 :: []) (x := ⟨"java/util/List", "get", "(I)Ljava/lang/Object;"⟩) hF (mJ2_get v4 a1) cw_J2_get rfl ⟨by decide, by decide⟩ q523 q356 n_q353 n_q352 n_q357 (List.forall_mem_cons.mpr ⟨⟨(RJ2, TJ2, 3), rfl, q354, n_q355, n_q155⟩, fun _ h9 => absurd h9 List.not_mem_nil⟩) rfl ⟨Nat.le_of_ble_eq_true rfl, Nat.le_of_ble_eq_true rfl⟩ ⟨trivial, Nat.le_of_ble_eq_true rfl⟩ dX0_ofStory_15 rfl (fun _ => rfl) (fun v5 M6 z7 => ?_)
    refine s_cast (pc := 20) hF q685 (List.forall_mem_cons.mpr ⟨⟨(RX5, TX5, 8), rfl, Or.inl rfl⟩, fun _ h9 => absurd h9 List.not_mem_nil⟩) dX0_ofStory_20 ?_
    refine s_astore_n (L9 := [some (va_rf a0), some (.int a1), some (.int a2), some (va_rf v5)]) (pc := 23) hF dX0_ofStory_23 rfl (Nat.le_of_ble_eq_true rfl) rfl ?_
    refine s_iload_n (pc := 24) hF dX0_ofStory_24 rfl rfl ?_
    refine s_case (v := 0) (pc := 25) hF 76 dX0_ofStory_25 (by decide) rfl rfl ?_ (fun h9_0 => ?_)
    · refine s_aload_n (pc := 76) hF dX0_ofStory_76 rfl rfl ?_
      refine s_getr (pc := 77) hF (fl_X0_244 hF) dX0_ofStory_77 (fun v8 => ?_)
      refine s_ifnonnull (pc := 80) hF 88 dX0_ofStory_80 rfl ?_ ?_
      · refine s_aload_n (pc := 88) hF dX0_ofStory_88 rfl rfl ?_
        refine s_getr (pc := 89) hF (fl_X0_244 hF) dX0_ofStory_89 (fun v9 => ?_)
        refine s_geti (pc := 92) hF (fl_X0_236 hF) dX0_ofStory_92 (fun v10 => ?_)
        exact s_iret (pc := 95) hF dX0_ofStory_95
      · refine s_bipush (pc := 83) hF dX0_ofStory_83 (-9 : Int32) (by decide) ?_
        refine s_goto (pc := 85) hF 95 dX0_ofStory_85 rfl ?_
        exact s_iret (pc := 95) hF dX0_ofStory_95
    refine s_case (v := 1) (pc := 25) hF 96 dX0_ofStory_25 (by decide) rfl rfl ?_ (fun h9_1 => ?_)
    · refine s_aload_n (pc := 96) hF dX0_ofStory_96 rfl rfl ?_
      refine s_getr (pc := 97) hF (fl_X0_192 hF) dX0_ofStory_97 (fun v11 => ?_)
      refine s_callF (pc := 100) (As := []) (st := []) (stf := fun r9 => .int r9 :: []) (x := ⟨"java/util/List", "size", "()I"⟩) hF (mJ2_size v11) cw_J2_size rfl ⟨by decide, by decide⟩ q152 q158 n_q154 n_q153 n_q159 (List.forall_mem_cons.mpr ⟨⟨(RJ2, TJ2, 3), rfl, q156, n_q157, n_q155⟩, fun _ h9 => absurd h9 List.not_mem_nil⟩) rfl ⟨Nat.le_of_ble_eq_true rfl, Nat.le_of_ble_eq_true rfl⟩ ⟨trivial, Nat.le_of_ble_eq_true rfl⟩ dX0_ofStory_100 rfl (fun _ => rfl) (fun v12 M13 z14 => ?_)
      exact s_iret (pc := 105) hF dX0_ofStory_105
    refine s_case (v := 2) (pc := 25) hF 106 dX0_ofStory_25 (by decide) rfl rfl ?_ (fun h9_2 => ?_)
    · refine s_aload_n (pc := 106) hF dX0_ofStory_106 rfl rfl ?_
      refine s_callV (pc := 107) (As := []) (st := []) (stf := fun r9 => .int r9 :: []) hF (mX5_words v5) cw_X5_words q851 q852 (List.forall_mem_cons.mpr ⟨⟨(RX5, TX5, 8), rfl, q853⟩, fun _ h9 => absurd h9 List.not_mem_nil⟩) rfl ⟨Nat.le_of_ble_eq_true rfl, Nat.le_of_ble_eq_true rfl⟩ ⟨trivial, Nat.le_of_ble_eq_true rfl⟩ dX0_ofStory_107 rfl (fun _ => rfl) (fun v15 M16 z17 => ?_)
      exact s_iret (pc := 110) hF dX0_ofStory_110
    refine s_case (v := 3) (pc := 25) hF 111 dX0_ofStory_25 (by decide) rfl rfl ?_ (fun h9_3 => ?_)
    · refine s_aload_n (pc := 111) hF dX0_ofStory_111 rfl rfl ?_
      refine s_callV (pc := 112) (As := []) (st := []) (stf := fun r9 => .int r9 :: []) hF (mX5_pictures v5) cw_X5_pictures q855 q856 (List.forall_mem_cons.mpr ⟨⟨(RX5, TX5, 8), rfl, q857⟩, fun _ h9 => absurd h9 List.not_mem_nil⟩) rfl ⟨Nat.le_of_ble_eq_true rfl, Nat.le_of_ble_eq_true rfl⟩ ⟨trivial, Nat.le_of_ble_eq_true rfl⟩ dX0_ofStory_112 rfl (fun _ => rfl) (fun v18 M19 z20 => ?_)
      exact s_iret (pc := 115) hF dX0_ofStory_115
    refine s_case (v := 4) (pc := 25) hF 116 dX0_ofStory_25 (by decide) rfl rfl ?_ (fun h9_4 => ?_)
    · refine s_aload_n (pc := 116) hF dX0_ofStory_116 rfl rfl ?_
      refine s_geti (pc := 117) hF (fl_X0_250 hF) dX0_ofStory_117 (fun v21 => ?_)
      exact s_iret (pc := 120) hF dX0_ofStory_120
    refine s_case (v := 5) (pc := 25) hF 121 dX0_ofStory_25 (by decide) rfl rfl ?_ (fun h9_5 => ?_)
    · refine s_aload_n (pc := 121) hF dX0_ofStory_121 rfl rfl ?_
      refine s_getr (pc := 122) hF (fl_X0_204 hF) dX0_ofStory_122 (fun v22 => ?_)
      refine s_callS (pc := 125) (As := [va_rf v22]) (st := []) (stf := fun r9 => .int r9 :: []) hF (mX0_numberOf v22) cw_X0_numberOf q859 q860 rfl ⟨Nat.le_of_ble_eq_true rfl, Nat.le_of_ble_eq_true rfl⟩ ⟨trivial, Nat.le_of_ble_eq_true rfl⟩ dX0_ofStory_125 rfl (fun _ => rfl) (fun v23 M24 z25 => ?_)
      exact s_iret (pc := 128) hF dX0_ofStory_128
    refine s_case (v := 6) (pc := 25) hF 129 dX0_ofStory_25 (by decide) rfl rfl ?_ (fun h9_6 => ?_)
    · refine s_aload_n (pc := 129) hF dX0_ofStory_129 rfl rfl ?_
      refine s_getr (pc := 130) hF (fl_X0_201 hF) dX0_ofStory_130 (fun v26 => ?_)
      refine s_callS (pc := 133) (As := [va_rf v26]) (st := []) (stf := fun r9 => .int r9 :: []) hF (mX0_numberOf v26) cw_X0_numberOf q859 q860 rfl ⟨Nat.le_of_ble_eq_true rfl, Nat.le_of_ble_eq_true rfl⟩ ⟨trivial, Nat.le_of_ble_eq_true rfl⟩ dX0_ofStory_133 rfl (fun _ => rfl) (fun v27 M28 z29 => ?_)
      exact s_iret (pc := 136) hF dX0_ofStory_136
    refine s_case (v := 7) (pc := 25) hF 137 dX0_ofStory_25 (by decide) rfl rfl ?_ (fun h9_7 => ?_)
    · refine s_aload_n (pc := 137) hF dX0_ofStory_137 rfl rfl ?_
      refine s_geti (pc := 138) hF (fl_X0_206 hF) dX0_ofStory_138 (fun v30 => ?_)
      exact s_iret (pc := 141) hF dX0_ofStory_141
    refine s_case (v := 8) (pc := 25) hF 142 dX0_ofStory_25 (by decide) rfl rfl ?_ (fun h9_8 => ?_)
    · refine s_aload_n (pc := 142) hF dX0_ofStory_142 rfl rfl ?_
      refine s_callV (pc := 143) (As := []) (st := []) (stf := fun r9 => .int r9 :: []) hF (mX5_isBroken v5) cw_X5_isBroken q862 q863 (List.forall_mem_cons.mpr ⟨⟨(RX5, TX5, 8), rfl, q864⟩, fun _ h9 => absurd h9 List.not_mem_nil⟩) rfl ⟨Nat.le_of_ble_eq_true rfl, Nat.le_of_ble_eq_true rfl⟩ ⟨trivial, Nat.le_of_ble_eq_true rfl⟩ dX0_ofStory_143 rfl (fun _ => rfl) (fun v31 M32 z33 => ?_)
      refine s_if_eq (pc := 146) hF 153 dX0_ofStory_146 rfl ?_ ?_
      · refine s_iconst (pc := 153) hF dX0_ofStory_153 (0 : Int32) (by decide) ?_
        exact s_iret (pc := 154) hF dX0_ofStory_154
      · refine s_iconst (pc := 149) hF dX0_ofStory_149 (1 : Int32) (by decide) ?_
        refine s_goto (pc := 150) hF 154 dX0_ofStory_150 rfl ?_
        exact s_iret (pc := 154) hF dX0_ofStory_154
    refine s_dflt (pc := 25) hF 155 dX0_ofStory_25 (by
    have := lv_neT (a := 0) h9_0 rfl
    have := lv_neT (a := 1) h9_1 rfl
    have := lv_neT (a := 2) h9_2 rfl
    have := lv_neT (a := 3) h9_3 rfl
    have := lv_neT (a := 4) h9_4 rfl
    have := lv_neT (a := 5) h9_5 rfl
    have := lv_neT (a := 6) h9_6 rfl
    have := lv_neT (a := 7) h9_7 rfl
    have := lv_neT (a := 8) h9_8 rfl
    omega) rfl ?_
    refine s_bipush (pc := 155) hF dX0_ofStory_155 (-2 : Int32) (by decide) ?_
    exact s_iret (pc := 157) hF dX0_ofStory_157
  · refine s_iconst (pc := 8) hF dX0_ofStory_8 (-1 : Int32) (by decide) ?_
    exact s_iret (pc := 9) hF dX0_ofStory_9
theorem mX0_ofStory (a0 : Option Nat) (a1 : Int32) (a2 : Int32) : MT yX0_ofStory cX0_ofStory 4 (Option.some Jvm.ClassFile.FieldType.int) 15 395 eI [va_rf a0, .int a1, .int a2] (fX0_ofStory a0 a1 a2) :=
  MT.of (L0 := [some (va_rf a0), some (.int a1), some (.int a2), none]) (by decide) ⟨ct _, ⟨rfl, ⟨rfl, trivial⟩⟩⟩ (Nat.le_of_ble_eq_true rfl) rfl (fun _ _ hF M z => gX0_ofStory hF a0 a1 a2 M z)

def fX0_text (a0 : Option Nat) (a1 : Int32) (a2 : Int32) (M : Mp) (z : Nat) : Rs Int32 := if ckc M a0 [0] = true then
  (cb (fX0_isStory a0 a1 M z) z fun v1 M2 z3 =>
if v1 = 0 then
  (some ((-1 : Int32), M2, 0, 0))
else
  (cb (fX0_in a2 (0 : Int32) (23 : Int32) M2 z3) z3 fun v4 M5 z6 =>
if v4 = 0 then
  (some ((-2 : Int32), M5, 0, 0))
else
  ((gr M5 a0 [0] 3).bind fun v7 =>
if ckc M5 v7 [11] = true then
  (cb (fJ2_get v7 a1 M5 z6) z6 fun v8 M9 z10 =>
if cst M9 v8 [5] = true then
  ((gr M9 v8 [5] 1).bind fun v11 =>
if ckc M9 v11 [11] = true then
  (cb (fJ2_size v11 M9 z10) z10 fun v12 M13 z14 =>
if a2 < v12 then
  ((gr M13 v8 [5] 1).bind fun v15 =>
if ckc M13 v15 [11] = true then
  (cb (fJ2_get v15 a2 M13 z14) z14 fun v16 M17 z18 =>
if cst M17 v16 [2, 3] = true then
  ((gi M17 v16 [2, 3] 0).bind fun v19 =>
some (v19, M17, 0, 0))
else none)
else none)
else
  (some ((-9 : Int32), M13, 0, 0)))
else none)
else none)
else none)))
else none
theorem gX0_text {G : Cx} {F : Option Value × Mp × Nat} (hF : FX G cX0_text 4 RX0 (Option.some Jvm.ClassFile.FieldType.int) "text" 15 395) (a0 : Option Nat) (a1 : Int32) (a2 : Int32) (M : Mp) (z : Nat) : SK G F 4 eI 0 [some (va_rf a0), some (.int a1), some (.int a2), none] [] M z (fX0_text a0 a1 a2 M z) := by
  unfold fX0_text
  refine s_aload_n (pc := 0) hF dX0_text_0 rfl rfl ?_
  refine s_iload_n (pc := 1) hF dX0_text_1 rfl rfl ?_
  refine s_callV (pc := 2) (As := [.int a1]) (st := []) (stf := fun r9 => .int r9 :: []) hF (mX0_isStory a0 a1) cw_X0_isStory q847 q849 (List.forall_mem_cons.mpr ⟨⟨(RX0, TX0, 6), rfl, qs18⟩, fun _ h9 => absurd h9 List.not_mem_nil⟩) rfl ⟨Nat.le_of_ble_eq_true rfl, Nat.le_of_ble_eq_true rfl⟩ ⟨trivial, Nat.le_of_ble_eq_true rfl⟩ dX0_text_2 rfl (fun _ => rfl) (fun v1 M2 z3 => ?_)
  refine s_if_ne (pc := 5) hF 10 dX0_text_5 rfl ?_ ?_
  · refine s_iload_n (pc := 10) hF dX0_text_10 rfl rfl ?_
    refine s_iconst (pc := 11) hF dX0_text_11 (0 : Int32) (by decide) ?_
    refine s_bipush (pc := 12) hF dX0_text_12 (23 : Int32) (by decide) ?_
    refine s_callS (pc := 14) (As := [.int a2, .int (0 : Int32), .int (23 : Int32)]) (st := []) (stf := fun r9 => .int r9 :: []) hF (mX0_in a2 (0 : Int32) (23 : Int32)) cw_X0_in q145 q146 rfl ⟨Nat.le_of_ble_eq_true rfl, Nat.le_of_ble_eq_true rfl⟩ ⟨trivial, Nat.le_of_ble_eq_true rfl⟩ dX0_text_14 rfl (fun _ => rfl) (fun v4 M5 z6 => ?_)
    refine s_if_ne (pc := 17) hF 23 dX0_text_17 rfl ?_ ?_
    · refine s_aload_n (pc := 23) hF dX0_text_23 rfl rfl ?_
      refine s_getr (pc := 24) hF (fl_X0_21 hF) dX0_text_24 (fun v7 => ?_)
      refine s_iload_n (pc := 27) hF dX0_text_27 rfl rfl ?_
      refine s_callF (pc := 28) (As := [.int a1]) (st := []) (stf := fun r9 => va_rf r9 :: []) (x := ⟨"java/util/List", "get", "(I)Ljava/lang/Object;"⟩) hF (mJ2_get v7 a1) cw_J2_get rfl ⟨by decide, by decide⟩ q523 q356 n_q353 n_q352 n_q357 (List.forall_mem_cons.mpr ⟨⟨(RJ2, TJ2, 3), rfl, q354, n_q355, n_q155⟩, fun _ h9 => absurd h9 List.not_mem_nil⟩) rfl ⟨Nat.le_of_ble_eq_true rfl, Nat.le_of_ble_eq_true rfl⟩ ⟨trivial, Nat.le_of_ble_eq_true rfl⟩ dX0_text_28 rfl (fun _ => rfl) (fun v8 M9 z10 => ?_)
      refine s_cast (pc := 33) hF q685 (List.forall_mem_cons.mpr ⟨⟨(RX5, TX5, 8), rfl, Or.inl rfl⟩, fun _ h9 => absurd h9 List.not_mem_nil⟩) dX0_text_33 ?_
      refine s_astore_n (L9 := [some (va_rf a0), some (.int a1), some (.int a2), some (va_rf v8)]) (pc := 36) hF dX0_text_36 rfl (Nat.le_of_ble_eq_true rfl) rfl ?_
      refine s_iload_n (pc := 37) hF dX0_text_37 rfl rfl ?_
      refine s_aload_n (pc := 38) hF dX0_text_38 rfl rfl ?_
      refine s_getr (pc := 39) hF (fl_X0_192 hF) dX0_text_39 (fun v11 => ?_)
      refine s_callF (pc := 42) (As := []) (st := [.int a2]) (stf := fun r9 => .int r9 :: [.int a2]) (x := ⟨"java/util/List", "size", "()I"⟩) hF (mJ2_size v11) cw_J2_size rfl ⟨by decide, by decide⟩ q152 q158 n_q154 n_q153 n_q159 (List.forall_mem_cons.mpr ⟨⟨(RJ2, TJ2, 3), rfl, q156, n_q157, n_q155⟩, fun _ h9 => absurd h9 List.not_mem_nil⟩) rfl ⟨Nat.le_of_ble_eq_true rfl, Nat.le_of_ble_eq_true rfl⟩ ⟨⟨rfl, trivial⟩, Nat.le_of_ble_eq_true rfl⟩ dX0_text_42 rfl (fun _ => rfl) (fun v12 M13 z14 => ?_)
      refine s_icmp_ge (pc := 47) hF 69 dX0_text_47 rfl ?_ ?_
      · refine s_bipush (pc := 69) hF dX0_text_69 (-9 : Int32) (by decide) ?_
        exact s_iret (pc := 71) hF dX0_text_71
      · refine s_aload_n (pc := 50) hF dX0_text_50 rfl rfl ?_
        refine s_getr (pc := 51) hF (fl_X0_192 hF) dX0_text_51 (fun v15 => ?_)
        refine s_iload_n (pc := 54) hF dX0_text_54 rfl rfl ?_
        refine s_callF (pc := 55) (As := [.int a2]) (st := []) (stf := fun r9 => va_rf r9 :: []) (x := ⟨"java/util/List", "get", "(I)Ljava/lang/Object;"⟩) hF (mJ2_get v15 a2) cw_J2_get rfl ⟨by decide, by decide⟩ q523 q356 n_q353 n_q352 n_q357 (List.forall_mem_cons.mpr ⟨⟨(RJ2, TJ2, 3), rfl, q354, n_q355, n_q155⟩, fun _ h9 => absurd h9 List.not_mem_nil⟩) rfl ⟨Nat.le_of_ble_eq_true rfl, Nat.le_of_ble_eq_true rfl⟩ ⟨trivial, Nat.le_of_ble_eq_true rfl⟩ dX0_text_55 rfl (fun _ => rfl) (fun v16 M17 z18 => ?_)
        refine s_cast (pc := 60) hF q252 (List.forall_mem_cons.mpr ⟨⟨(RX2, TX2, 13), rfl, Or.inl rfl⟩, List.forall_mem_cons.mpr ⟨⟨(RX3, TX3, 14), rfl, Or.inr n_q1359⟩, fun _ h9 => absurd h9 List.not_mem_nil⟩⟩) dX0_text_60 ?_
        refine s_geti (pc := 63) hF (fl_X0_150 hF) dX0_text_63 (fun v19 => ?_)
        refine s_goto (pc := 66) hF 71 dX0_text_66 rfl ?_
        exact s_iret (pc := 71) hF dX0_text_71
    · refine s_bipush (pc := 20) hF dX0_text_20 (-2 : Int32) (by decide) ?_
      exact s_iret (pc := 22) hF dX0_text_22
  · refine s_iconst (pc := 8) hF dX0_text_8 (-1 : Int32) (by decide) ?_
    exact s_iret (pc := 9) hF dX0_text_9
theorem mX0_text (a0 : Option Nat) (a1 : Int32) (a2 : Int32) : MT yX0_text cX0_text 4 (Option.some Jvm.ClassFile.FieldType.int) 15 395 eI [va_rf a0, .int a1, .int a2] (fX0_text a0 a1 a2) :=
  MT.of (L0 := [some (va_rf a0), some (.int a1), some (.int a2), none]) (by decide) ⟨ct _, ⟨rfl, ⟨rfl, trivial⟩⟩⟩ (Nat.le_of_ble_eq_true rfl) rfl (fun _ _ hF M z => gX0_text hF a0 a1 a2 M z)

theorem pl_X6_7 {G : Cx} {nL fr lc : Nat} {cc : ByteArray} {ret : Option FieldType} (hF : FX G cc nL RX6 ret "<init>" fr lc) (x9 : Int32) : ∀ c ∈ [6], PF G RX6 "<init>" 7 c 0 (.int x9) := by
  obtain ⟨⟨p, l, e, R, s, m, args, below, meth, c0⟩, A, D, dA, mi⟩ := G
  obtain ⟨hx, hb, hml, hown, hts, hr, hlk, hK, hnm, hfr, hlc⟩ := hF
  exact List.forall_mem_cons.mpr ⟨⟨RX6, TX6, 2, "StoryColumns$Mark", tyX6 0, rfl, in_X6, Nat.le_of_ble_eq_true rfl, Or.inl ⟨(hts _ q880), Or.inr ⟨rfl, rfl, rfl⟩⟩, fun _ h => h, tyX6_ok 0 (Nat.le_of_ble_eq_true rfl), rfl, rfl, ap_6 hts hK⟩, fun _ h9 => absurd h9 List.not_mem_nil⟩
theorem pl_X6_13 {G : Cx} {nL fr lc : Nat} {cc : ByteArray} {ret : Option FieldType} (hF : FX G cc nL RX6 ret "<init>" fr lc) (x9 : Int32) : ∀ c ∈ [6], PF G RX6 "<init>" 13 c 1 (.int x9) := by
  obtain ⟨⟨p, l, e, R, s, m, args, below, meth, c0⟩, A, D, dA, mi⟩ := G
  obtain ⟨hx, hb, hml, hown, hts, hr, hlk, hK, hnm, hfr, hlc⟩ := hF
  exact List.forall_mem_cons.mpr ⟨⟨RX6, TX6, 2, "StoryColumns$Mark", tyX6 1, rfl, in_X6, Nat.le_of_ble_eq_true rfl, Or.inl ⟨(hts _ q883), Or.inr ⟨rfl, rfl, rfl⟩⟩, fun _ h => h, tyX6_ok 1 (Nat.le_of_ble_eq_true rfl), rfl, rfl, ap_6 hts hK⟩, fun _ h9 => absurd h9 List.not_mem_nil⟩
def fX6_init (a0 : Option Nat) (a1 : Int32) (a2 : Int32) (M : Mp) (z : Nat) : Rs Unit := if a0 = none then none else
  ((pu M a0 [6] 0 (.int a1)).bind fun M1 =>
(pu M1 a0 [6] 1 (.int a2)).bind fun M2 =>
some ((), M2, 0, 0))
theorem gX6_init {G : Cx} {F : Option Value × Mp × Nat} (hF : FX G cX6_init 3 RX6 (Option.none : Option Jvm.ClassFile.FieldType) "<init>" 1 20) (a0 : Option Nat) (a1 : Int32) (a2 : Int32) (M : Mp) (z : Nat) : SK G F 3 eV 0 [some (va_rf a0), some (.int a1), some (.int a2)] [] M z (fX6_init a0 a1 a2 M z) := by
  unfold fX6_init
  refine s_aload_n (pc := 0) hF dX6_init_0 rfl rfl ?_
  refine s_oinit (pc := 1) hF q879 ⟨Nat.le_of_ble_eq_true rfl, Nat.le_of_ble_eq_true rfl⟩ ⟨trivial, Nat.le_of_ble_eq_true rfl⟩ dX6_init_1 ?_
  refine s_aload_n (pc := 4) hF dX6_init_4 rfl rfl ?_
  refine s_iload_n (pc := 5) hF dX6_init_5 rfl rfl ?_
  refine s_put (pc := 6) hF (pl_X6_7 hF _) dX6_init_6 (fun M1 => ?_)
  refine s_aload_n (pc := 9) hF dX6_init_9 rfl rfl ?_
  refine s_iload_n (pc := 10) hF dX6_init_10 rfl rfl ?_
  refine s_put (pc := 11) hF (pl_X6_13 hF _) dX6_init_11 (fun M2 => ?_)
  exact s_vret (pc := 14) hF dX6_init_14
theorem mX6_init (a0 : Option Nat) (a1 : Int32) (a2 : Int32) : MT yX6_init cX6_init 3 (Option.none : Option Jvm.ClassFile.FieldType) 1 20 eV [va_rf a0, .int a1, .int a2] (fX6_init a0 a1 a2) :=
  MT.of (L0 := [some (va_rf a0), some (.int a1), some (.int a2)]) (by decide) ⟨ct _, ⟨rfl, ⟨rfl, trivial⟩⟩⟩ (Nat.le_of_ble_eq_true rfl) rfl (fun _ _ hF M z => gX6_init hF a0 a1 a2 M z)

theorem fl_X0_260 {G : Cx} {nL fr lc : Nat} {cc : ByteArray} {ret : Option FieldType} {nm : String} (hF : FX G cc nL RX0 ret nm fr lc) : ∀ c ∈ [2, 3], GF G RX0 260 c 8 := by
  obtain ⟨⟨p, l, e, R, s, m, args, below, meth, c0⟩, A, D, dA, mi⟩ := G
  obtain ⟨hx, hb, hml, hown, hts, hr, hlk, hK, hnm, hfr, hlc⟩ := hF
  exact List.forall_mem_cons.mpr ⟨⟨RX2, TX2, 13, "StoryColumns$Block", rfl, in_X2, Nat.le_of_ble_eq_true rfl, Or.inl (hts _ q210), fun _ h => h⟩, List.forall_mem_cons.mpr ⟨⟨RX3, TX3, 14, "StoryColumns$Block", rfl, in_X3, Nat.le_of_ble_eq_true rfl, Or.inl (hts _ q210), fun _ h => h⟩, fun _ h9 => absurd h9 List.not_mem_nil⟩⟩
theorem cw_X6_init : CWm yX6_init cX6_init 3 (Option.none : Option Jvm.ClassFile.FieldType) 2 := ⟨q878, q75, by decide +kernel, by decide +kernel, by decide +kernel⟩
def fX0_mark_J96 (l0 : Option Nat) (l2 : Int32) (l3 : Int32) (l4 : Int32) (l5 : Option Nat) (s0 : Int32) (M : Mp) (z : Nat) : Rs Int32 := (gr M l5 [2, 3] 8).bind fun v1 =>
nwo 6 2 [.int 0, .int 0] M z fun M2 z3 =>
if (some z) = none then none else
  (cb (fX6_init (some z) l3 l4 M2 z3) z3 fun _ M5 z6 =>
(sr M5 3 v1 l2 (some z)).bind fun M7 =>
if ckc M7 l0 [0] = true then
  (cb (fX0_changed l0 s0 M7 z6) z6 fun v8 M9 z10 =>
some (v8, M9, 0, 0))
else none)

theorem gX0_mark_J96 {G : Cx} {F : Option Value × Mp × Nat} (hF : FX G cX0_mark 7 RX0 (Option.some Jvm.ClassFile.FieldType.int) "mark" 3 64) (l0 : Option Nat) (l2 : Int32) (l3 : Int32) (l4 : Int32) (l5 : Option Nat) (s0 : Int32) (M : Mp) (z : Nat) : SK G F 7 eI 96 [some (va_rf l0), none, some (.int l2), some (.int l3), some (.int l4), some (va_rf l5), none] [.int s0] M z (fX0_mark_J96 l0 l2 l3 l4 l5 s0 M z) := by
  unfold fX0_mark_J96
  refine s_istore (L9 := [some (va_rf l0), none, some (.int l2), some (.int l3), some (.int l4), some (va_rf l5), some (.int s0)]) (pc := 96) hF dX0_mark_96 (Nat.le_of_ble_eq_true rfl) rfl ?_
  refine s_aload (pc := 98) hF dX0_mark_98 rfl ?_
  refine s_getr (pc := 100) hF (fl_X0_260 hF) dX0_mark_100 (fun v1 => ?_)
  refine s_iload_n (pc := 103) hF dX0_mark_103 rfl rfl ?_
  refine s_nwo (pc := 104) hF dX0_mark_104 rfl in_X6 tyX6 tyX6_ok q874 q875 q75 (fun j hj => by rcases (show j = 0 ∨ j = 1 by omega) with rfl | rfl <;> rfl) (fun M2 z3 => ?_)
  refine s_dup (pc := 107) hF dX0_mark_107 (ct _) ?_
  refine s_iload_n (pc := 108) hF dX0_mark_108 rfl rfl ?_
  refine s_iload (pc := 109) hF dX0_mark_109 rfl ?_
  refine s_callJ (pc := 111) (As := [.int l3, .int l4]) (st := [va_rf (some z), .int l2, va_rf v1]) (stf := fun r9 => [va_rf (some z), .int l2, va_rf v1]) hF (mX6_init (some z) l3 l4) cw_X6_init q876 q877 rfl rfl ⟨Nat.le_of_ble_eq_true rfl, Nat.le_of_ble_eq_true rfl⟩ ⟨⟨ct _, ⟨rfl, ⟨ct _, trivial⟩⟩⟩, Nat.le_of_ble_eq_true rfl⟩ dX0_mark_111 rfl (fun _ => rfl) (fun v4 M5 z6 => ?_)
  refine s_aast (pc := 114) 3 (by decide) hF dX0_mark_114 (fun M7 => ?_)
  refine s_aload_n (pc := 115) hF dX0_mark_115 rfl rfl ?_
  refine s_iload (pc := 116) hF dX0_mark_116 rfl ?_
  refine s_callV (pc := 118) (As := [.int s0]) (st := []) (stf := fun r9 => .int r9 :: []) hF (mX0_changed l0 s0) cw_X0_changed q510 q512 (List.forall_mem_cons.mpr ⟨⟨(RX0, TX0, 6), rfl, qs4⟩, fun _ h9 => absurd h9 List.not_mem_nil⟩) rfl ⟨Nat.le_of_ble_eq_true rfl, Nat.le_of_ble_eq_true rfl⟩ ⟨trivial, Nat.le_of_ble_eq_true rfl⟩ dX0_mark_118 rfl (fun _ => rfl) (fun v8 M9 z10 => ?_)
  exact s_iret (pc := 121) hF dX0_mark_121

def fX0_mark_J81 (l0 : Option Nat) (l2 : Int32) (l3 : Int32) (l4 : Int32) (l5 : Option Nat) (M : Mp) (z : Nat) : Rs Int32 := (gr M l5 [2, 3] 8).bind fun v1 =>
(ar M 3 v1 l2).bind fun v2 =>
if v2 = none then
  (fX0_mark_J96 l0 l2 l3 l4 l5 (0 : Int32) M z)
else
  (fX0_mark_J96 l0 l2 l3 l4 l5 (1 : Int32) M z)

theorem gX0_mark_J81 {G : Cx} {F : Option Value × Mp × Nat} (hF : FX G cX0_mark 7 RX0 (Option.some Jvm.ClassFile.FieldType.int) "mark" 3 64) (l0 : Option Nat) (l2 : Int32) (l3 : Int32) (l4 : Int32) (l5 : Option Nat) (M : Mp) (z : Nat) : SK G F 7 eI 81 [some (va_rf l0), none, some (.int l2), some (.int l3), some (.int l4), some (va_rf l5), none] [] M z (fX0_mark_J81 l0 l2 l3 l4 l5 M z) := by
  unfold fX0_mark_J81
  refine s_aload (pc := 81) hF dX0_mark_81 rfl ?_
  refine s_getr (pc := 83) hF (fl_X0_260 hF) dX0_mark_83 (fun v1 => ?_)
  refine s_iload_n (pc := 86) hF dX0_mark_86 rfl rfl ?_
  refine s_aald (pc := 87) 3 (by decide) hF dX0_mark_87 (fun v2 => ?_)
  refine s_ifnonnull (pc := 88) hF 95 dX0_mark_88 rfl ?_ ?_
  · refine s_iconst (pc := 95) hF dX0_mark_95 (1 : Int32) (by decide) ?_
    exact SK.sb (gX0_mark_J96 hF l0 l2 l3 l4 l5 (1 : Int32) M z) ⟨rfl, ⟨rfl, ⟨rfl, ⟨rfl, ⟨rfl, trivial⟩⟩⟩⟩⟩
  · refine s_iconst (pc := 91) hF dX0_mark_91 (0 : Int32) (by decide) ?_
    refine s_goto (pc := 92) hF 96 dX0_mark_92 rfl ?_
    exact SK.sb (gX0_mark_J96 hF l0 l2 l3 l4 l5 (0 : Int32) M z) ⟨rfl, ⟨rfl, ⟨rfl, ⟨rfl, ⟨rfl, trivial⟩⟩⟩⟩⟩
def fX0_mark (a0 : Option Nat) (a1 : Int32) (a2 : Int32) (a3 : Int32) (a4 : Int32) (M : Mp) (z : Nat) : Rs Int32 := if ckc M a0 [0] = true then
  (cb (fX0_isBlock a0 a1 M z) z fun v1 M2 z3 =>
if v1 = 0 then
  (some ((-1 : Int32), M2, 0, 0))
else
  (cb (fX0_in a2 (0 : Int32) (1 : Int32) M2 z3) z3 fun v4 M5 z6 =>
if v4 = 0 then
  (some ((-2 : Int32), M5, 0, 0))
else
  (cb (fX0_in a3 (0 : Int32) (3 : Int32) M5 z6) z6 fun v7 M8 z9 =>
if v7 = 0 then
  (some ((-2 : Int32), M8, 0, 0))
else
  (cb (fX0_in a4 (0 : Int32) (99 : Int32) M8 z9) z9 fun v10 M11 z12 =>
if v10 = 0 then
  (some ((-2 : Int32), M11, 0, 0))
else
  ((gr M11 a0 [0] 0).bind fun v13 =>
if ckc M11 v13 [11] = true then
  (cb (fJ2_get v13 a1 M11 z12) z12 fun v14 M15 z16 =>
if cst M15 v14 [2, 3] = true then
  ((gi M15 v14 [2, 3] 2).bind fun v17 =>
if v17 = (2 : Int32) then
  (some ((-3 : Int32), M15, 0, 0))
else
  ((gi M15 v14 [2, 3] 2).bind fun v18 =>
if v18 = 0 then
  (if a2 = 0 then
  (some ((-3 : Int32), M15, 0, 0))
else
  (fX0_mark_J81 a0 a2 a3 a4 v14 M15 z16))
else
  (fX0_mark_J81 a0 a2 a3 a4 v14 M15 z16)))
else none)
else none)))))
else none
theorem gX0_mark {G : Cx} {F : Option Value × Mp × Nat} (hF : FX G cX0_mark 7 RX0 (Option.some Jvm.ClassFile.FieldType.int) "mark" 3 64) (a0 : Option Nat) (a1 : Int32) (a2 : Int32) (a3 : Int32) (a4 : Int32) (M : Mp) (z : Nat) : SK G F 7 eI 0 [some (va_rf a0), some (.int a1), some (.int a2), some (.int a3), some (.int a4), none, none] [] M z (fX0_mark a0 a1 a2 a3 a4 M z) := by
  unfold fX0_mark
  refine s_aload_n (pc := 0) hF dX0_mark_0 rfl rfl ?_
  refine s_iload_n (pc := 1) hF dX0_mark_1 rfl rfl ?_
  refine s_callV (pc := 2) (As := [.int a1]) (st := []) (stf := fun r9 => .int r9 :: []) hF (mX0_isBlock a0 a1) cw_X0_isBlock q518 q520 (List.forall_mem_cons.mpr ⟨⟨(RX0, TX0, 6), rfl, qs5⟩, fun _ h9 => absurd h9 List.not_mem_nil⟩) rfl ⟨Nat.le_of_ble_eq_true rfl, Nat.le_of_ble_eq_true rfl⟩ ⟨trivial, Nat.le_of_ble_eq_true rfl⟩ dX0_mark_2 rfl (fun _ => rfl) (fun v1 M2 z3 => ?_)
  refine s_if_ne (pc := 5) hF 10 dX0_mark_5 rfl ?_ ?_
  · refine s_iload_n (pc := 10) hF dX0_mark_10 rfl rfl ?_
    refine s_iconst (pc := 11) hF dX0_mark_11 (0 : Int32) (by decide) ?_
    refine s_iconst (pc := 12) hF dX0_mark_12 (1 : Int32) (by decide) ?_
    refine s_callS (pc := 13) (As := [.int a2, .int (0 : Int32), .int (1 : Int32)]) (st := []) (stf := fun r9 => .int r9 :: []) hF (mX0_in a2 (0 : Int32) (1 : Int32)) cw_X0_in q145 q146 rfl ⟨Nat.le_of_ble_eq_true rfl, Nat.le_of_ble_eq_true rfl⟩ ⟨trivial, Nat.le_of_ble_eq_true rfl⟩ dX0_mark_13 rfl (fun _ => rfl) (fun v4 M5 z6 => ?_)
    refine s_if_eq (pc := 16) hF 39 dX0_mark_16 rfl ?_ ?_
    · refine s_bipush (pc := 39) hF dX0_mark_39 (-2 : Int32) (by decide) ?_
      exact s_iret (pc := 41) hF dX0_mark_41
    · refine s_iload_n (pc := 19) hF dX0_mark_19 rfl rfl ?_
      refine s_iconst (pc := 20) hF dX0_mark_20 (0 : Int32) (by decide) ?_
      refine s_iconst (pc := 21) hF dX0_mark_21 (3 : Int32) (by decide) ?_
      refine s_callS (pc := 22) (As := [.int a3, .int (0 : Int32), .int (3 : Int32)]) (st := []) (stf := fun r9 => .int r9 :: []) hF (mX0_in a3 (0 : Int32) (3 : Int32)) cw_X0_in q145 q146 rfl ⟨Nat.le_of_ble_eq_true rfl, Nat.le_of_ble_eq_true rfl⟩ ⟨trivial, Nat.le_of_ble_eq_true rfl⟩ dX0_mark_22 rfl (fun _ => rfl) (fun v7 M8 z9 => ?_)
      refine s_if_eq (pc := 25) hF 39 dX0_mark_25 rfl ?_ ?_
      · refine s_bipush (pc := 39) hF dX0_mark_39 (-2 : Int32) (by decide) ?_
        exact s_iret (pc := 41) hF dX0_mark_41
      · refine s_iload (pc := 28) hF dX0_mark_28 rfl ?_
        refine s_iconst (pc := 30) hF dX0_mark_30 (0 : Int32) (by decide) ?_
        refine s_bipush (pc := 31) hF dX0_mark_31 (99 : Int32) (by decide) ?_
        refine s_callS (pc := 33) (As := [.int a4, .int (0 : Int32), .int (99 : Int32)]) (st := []) (stf := fun r9 => .int r9 :: []) hF (mX0_in a4 (0 : Int32) (99 : Int32)) cw_X0_in q145 q146 rfl ⟨Nat.le_of_ble_eq_true rfl, Nat.le_of_ble_eq_true rfl⟩ ⟨trivial, Nat.le_of_ble_eq_true rfl⟩ dX0_mark_33 rfl (fun _ => rfl) (fun v10 M11 z12 => ?_)
        refine s_if_ne (pc := 36) hF 42 dX0_mark_36 rfl ?_ ?_
        · refine s_aload_n (pc := 42) hF dX0_mark_42 rfl rfl ?_
          refine s_getr (pc := 43) hF (fl_X0_14 hF) dX0_mark_43 (fun v13 => ?_)
          refine s_iload_n (pc := 46) hF dX0_mark_46 rfl rfl ?_
          refine s_callF (pc := 47) (As := [.int a1]) (st := []) (stf := fun r9 => va_rf r9 :: []) (x := ⟨"java/util/List", "get", "(I)Ljava/lang/Object;"⟩) hF (mJ2_get v13 a1) cw_J2_get rfl ⟨by decide, by decide⟩ q523 q356 n_q353 n_q352 n_q357 (List.forall_mem_cons.mpr ⟨⟨(RJ2, TJ2, 3), rfl, q354, n_q355, n_q155⟩, fun _ h9 => absurd h9 List.not_mem_nil⟩) rfl ⟨Nat.le_of_ble_eq_true rfl, Nat.le_of_ble_eq_true rfl⟩ ⟨trivial, Nat.le_of_ble_eq_true rfl⟩ dX0_mark_47 rfl (fun _ => rfl) (fun v14 M15 z16 => ?_)
          refine s_cast (pc := 52) hF q252 (List.forall_mem_cons.mpr ⟨⟨(RX2, TX2, 13), rfl, Or.inl rfl⟩, List.forall_mem_cons.mpr ⟨⟨(RX3, TX3, 14), rfl, Or.inr n_q1359⟩, fun _ h9 => absurd h9 List.not_mem_nil⟩⟩) dX0_mark_52 ?_
          refine s_astore (L9 := [some (va_rf a0), some (.int a1), some (.int a2), some (.int a3), some (.int a4), some (va_rf v14), none]) (pc := 55) hF dX0_mark_55 (Nat.le_of_ble_eq_true rfl) rfl ?_
          refine s_aload (pc := 57) hF dX0_mark_57 rfl ?_
          refine s_geti (pc := 59) hF (fl_X0_134 hF) dX0_mark_59 (fun v17 => ?_)
          refine s_iconst (pc := 62) hF dX0_mark_62 (2 : Int32) (by decide) ?_
          refine s_icmp_eq (pc := 63) hF 78 dX0_mark_63 rfl ?_ ?_
          · refine s_bipush (pc := 78) hF dX0_mark_78 (-3 : Int32) (by decide) ?_
            exact s_iret (pc := 80) hF dX0_mark_80
          · refine s_aload (pc := 66) hF dX0_mark_66 rfl ?_
            refine s_geti (pc := 68) hF (fl_X0_134 hF) dX0_mark_68 (fun v18 => ?_)
            refine s_if_ne (pc := 71) hF 81 dX0_mark_71 rfl ?_ ?_
            · exact SK.sb (gX0_mark_J81 hF a0 a2 a3 a4 v14 M15 z16) ⟨rfl, ⟨rfl, ⟨rfl, ⟨rfl, ⟨rfl, trivial⟩⟩⟩⟩⟩
            · refine s_iload_n (pc := 74) hF dX0_mark_74 rfl rfl ?_
              refine s_if_ne (pc := 75) hF 81 dX0_mark_75 rfl ?_ ?_
              · exact SK.sb (gX0_mark_J81 hF a0 a2 a3 a4 v14 M15 z16) ⟨rfl, ⟨rfl, ⟨rfl, ⟨rfl, ⟨rfl, trivial⟩⟩⟩⟩⟩
              · refine s_bipush (pc := 78) hF dX0_mark_78 (-3 : Int32) (by decide) ?_
                exact s_iret (pc := 80) hF dX0_mark_80
        · refine s_bipush (pc := 39) hF dX0_mark_39 (-2 : Int32) (by decide) ?_
          exact s_iret (pc := 41) hF dX0_mark_41
  · refine s_iconst (pc := 8) hF dX0_mark_8 (-1 : Int32) (by decide) ?_
    exact s_iret (pc := 9) hF dX0_mark_9
theorem mX0_mark (a0 : Option Nat) (a1 : Int32) (a2 : Int32) (a3 : Int32) (a4 : Int32) : MT yX0_mark cX0_mark 7 (Option.some Jvm.ClassFile.FieldType.int) 3 64 eI [va_rf a0, .int a1, .int a2, .int a3, .int a4] (fX0_mark a0 a1 a2 a3 a4) :=
  MT.of (L0 := [some (va_rf a0), some (.int a1), some (.int a2), some (.int a3), some (.int a4), none, none]) (by decide) ⟨ct _, ⟨rfl, ⟨rfl, ⟨rfl, ⟨rfl, trivial⟩⟩⟩⟩⟩ (Nat.le_of_ble_eq_true rfl) rfl (fun _ _ hF M z => gX0_mark hF a0 a1 a2 a3 a4 M z)

def fX0_unmark_J50 (l0 : Option Nat) (l2 : Int32) (l3 : Option Nat) (s0 : Int32) (M : Mp) (z : Nat) : Rs Int32 := (gr M l3 [2, 3] 8).bind fun v1 =>
(sr M 3 v1 l2 none).bind fun M2 =>
if ckc M2 l0 [0] = true then
  (cb (fX0_changed l0 s0 M2 z) z fun v3 M4 z5 =>
some (v3, M4, 0, 0))
else none

theorem gX0_unmark_J50 {G : Cx} {F : Option Value × Mp × Nat} (hF : FX G cX0_unmark 5 RX0 (Option.some Jvm.ClassFile.FieldType.int) "unmark" 3 64) (l0 : Option Nat) (l2 : Int32) (l3 : Option Nat) (s0 : Int32) (M : Mp) (z : Nat) : SK G F 5 eI 50 [some (va_rf l0), none, some (.int l2), some (va_rf l3), none] [.int s0] M z (fX0_unmark_J50 l0 l2 l3 s0 M z) := by
  unfold fX0_unmark_J50
  refine s_istore (L9 := [some (va_rf l0), none, some (.int l2), some (va_rf l3), some (.int s0)]) (pc := 50) hF dX0_unmark_50 (Nat.le_of_ble_eq_true rfl) rfl ?_
  refine s_aload_n (pc := 52) hF dX0_unmark_52 rfl rfl ?_
  refine s_getr (pc := 53) hF (fl_X0_260 hF) dX0_unmark_53 (fun v1 => ?_)
  refine s_iload_n (pc := 56) hF dX0_unmark_56 rfl rfl ?_
  refine s_null (pc := 57) hF dX0_unmark_57 ?_
  refine s_aast (pc := 58) 3 (by decide) hF dX0_unmark_58 (fun M2 => ?_)
  refine s_aload_n (pc := 59) hF dX0_unmark_59 rfl rfl ?_
  refine s_iload (pc := 60) hF dX0_unmark_60 rfl ?_
  refine s_callV (pc := 62) (As := [.int s0]) (st := []) (stf := fun r9 => .int r9 :: []) hF (mX0_changed l0 s0) cw_X0_changed q510 q512 (List.forall_mem_cons.mpr ⟨⟨(RX0, TX0, 6), rfl, qs4⟩, fun _ h9 => absurd h9 List.not_mem_nil⟩) rfl ⟨Nat.le_of_ble_eq_true rfl, Nat.le_of_ble_eq_true rfl⟩ ⟨trivial, Nat.le_of_ble_eq_true rfl⟩ dX0_unmark_62 rfl (fun _ => rfl) (fun v3 M4 z5 => ?_)
  exact s_iret (pc := 65) hF dX0_unmark_65
def fX0_unmark (a0 : Option Nat) (a1 : Int32) (a2 : Int32) (M : Mp) (z : Nat) : Rs Int32 := if ckc M a0 [0] = true then
  (cb (fX0_isBlock a0 a1 M z) z fun v1 M2 z3 =>
if v1 = 0 then
  (some ((-1 : Int32), M2, 0, 0))
else
  (cb (fX0_in a2 (0 : Int32) (1 : Int32) M2 z3) z3 fun v4 M5 z6 =>
if v4 = 0 then
  (some ((-2 : Int32), M5, 0, 0))
else
  ((gr M5 a0 [0] 0).bind fun v7 =>
if ckc M5 v7 [11] = true then
  (cb (fJ2_get v7 a1 M5 z6) z6 fun v8 M9 z10 =>
if cst M9 v8 [2, 3] = true then
  ((gr M9 v8 [2, 3] 8).bind fun v11 =>
(ar M9 3 v11 a2).bind fun v12 =>
if v12 = none then
  (fX0_unmark_J50 a0 a2 v8 (0 : Int32) M9 z10)
else
  (fX0_unmark_J50 a0 a2 v8 (1 : Int32) M9 z10))
else none)
else none)))
else none
theorem gX0_unmark {G : Cx} {F : Option Value × Mp × Nat} (hF : FX G cX0_unmark 5 RX0 (Option.some Jvm.ClassFile.FieldType.int) "unmark" 3 64) (a0 : Option Nat) (a1 : Int32) (a2 : Int32) (M : Mp) (z : Nat) : SK G F 5 eI 0 [some (va_rf a0), some (.int a1), some (.int a2), none, none] [] M z (fX0_unmark a0 a1 a2 M z) := by
  unfold fX0_unmark
  refine s_aload_n (pc := 0) hF dX0_unmark_0 rfl rfl ?_
  refine s_iload_n (pc := 1) hF dX0_unmark_1 rfl rfl ?_
  refine s_callV (pc := 2) (As := [.int a1]) (st := []) (stf := fun r9 => .int r9 :: []) hF (mX0_isBlock a0 a1) cw_X0_isBlock q518 q520 (List.forall_mem_cons.mpr ⟨⟨(RX0, TX0, 6), rfl, qs5⟩, fun _ h9 => absurd h9 List.not_mem_nil⟩) rfl ⟨Nat.le_of_ble_eq_true rfl, Nat.le_of_ble_eq_true rfl⟩ ⟨trivial, Nat.le_of_ble_eq_true rfl⟩ dX0_unmark_2 rfl (fun _ => rfl) (fun v1 M2 z3 => ?_)
  refine s_if_ne (pc := 5) hF 10 dX0_unmark_5 rfl ?_ ?_
  · refine s_iload_n (pc := 10) hF dX0_unmark_10 rfl rfl ?_
    refine s_iconst (pc := 11) hF dX0_unmark_11 (0 : Int32) (by decide) ?_
    refine s_iconst (pc := 12) hF dX0_unmark_12 (1 : Int32) (by decide) ?_
    refine s_callS (pc := 13) (As := [.int a2, .int (0 : Int32), .int (1 : Int32)]) (st := []) (stf := fun r9 => .int r9 :: []) hF (mX0_in a2 (0 : Int32) (1 : Int32)) cw_X0_in q145 q146 rfl ⟨Nat.le_of_ble_eq_true rfl, Nat.le_of_ble_eq_true rfl⟩ ⟨trivial, Nat.le_of_ble_eq_true rfl⟩ dX0_unmark_13 rfl (fun _ => rfl) (fun v4 M5 z6 => ?_)
    refine s_if_ne (pc := 16) hF 22 dX0_unmark_16 rfl ?_ ?_
    · refine s_aload_n (pc := 22) hF dX0_unmark_22 rfl rfl ?_
      refine s_getr (pc := 23) hF (fl_X0_14 hF) dX0_unmark_23 (fun v7 => ?_)
      refine s_iload_n (pc := 26) hF dX0_unmark_26 rfl rfl ?_
      refine s_callF (pc := 27) (As := [.int a1]) (st := []) (stf := fun r9 => va_rf r9 :: []) (x := ⟨"java/util/List", "get", "(I)Ljava/lang/Object;"⟩) hF (mJ2_get v7 a1) cw_J2_get rfl ⟨by decide, by decide⟩ q523 q356 n_q353 n_q352 n_q357 (List.forall_mem_cons.mpr ⟨⟨(RJ2, TJ2, 3), rfl, q354, n_q355, n_q155⟩, fun _ h9 => absurd h9 List.not_mem_nil⟩) rfl ⟨Nat.le_of_ble_eq_true rfl, Nat.le_of_ble_eq_true rfl⟩ ⟨trivial, Nat.le_of_ble_eq_true rfl⟩ dX0_unmark_27 rfl (fun _ => rfl) (fun v8 M9 z10 => ?_)
      refine s_cast (pc := 32) hF q252 (List.forall_mem_cons.mpr ⟨⟨(RX2, TX2, 13), rfl, Or.inl rfl⟩, List.forall_mem_cons.mpr ⟨⟨(RX3, TX3, 14), rfl, Or.inr n_q1359⟩, fun _ h9 => absurd h9 List.not_mem_nil⟩⟩) dX0_unmark_32 ?_
      refine s_astore_n (L9 := [some (va_rf a0), some (.int a1), some (.int a2), some (va_rf v8), none]) (pc := 35) hF dX0_unmark_35 rfl (Nat.le_of_ble_eq_true rfl) rfl ?_
      refine s_aload_n (pc := 36) hF dX0_unmark_36 rfl rfl ?_
      refine s_getr (pc := 37) hF (fl_X0_260 hF) dX0_unmark_37 (fun v11 => ?_)
      refine s_iload_n (pc := 40) hF dX0_unmark_40 rfl rfl ?_
      refine s_aald (pc := 41) 3 (by decide) hF dX0_unmark_41 (fun v12 => ?_)
      refine s_ifnonnull (pc := 42) hF 49 dX0_unmark_42 rfl ?_ ?_
      · refine s_iconst (pc := 49) hF dX0_unmark_49 (1 : Int32) (by decide) ?_
        exact SK.sb (gX0_unmark_J50 hF a0 a2 v8 (1 : Int32) M9 z10) ⟨rfl, ⟨rfl, ⟨rfl, trivial⟩⟩⟩
      · refine s_iconst (pc := 45) hF dX0_unmark_45 (0 : Int32) (by decide) ?_
        refine s_goto (pc := 46) hF 50 dX0_unmark_46 rfl ?_
        exact SK.sb (gX0_unmark_J50 hF a0 a2 v8 (0 : Int32) M9 z10) ⟨rfl, ⟨rfl, ⟨rfl, trivial⟩⟩⟩
    · refine s_bipush (pc := 19) hF dX0_unmark_19 (-2 : Int32) (by decide) ?_
      exact s_iret (pc := 21) hF dX0_unmark_21
  · refine s_iconst (pc := 8) hF dX0_unmark_8 (-1 : Int32) (by decide) ?_
    exact s_iret (pc := 9) hF dX0_unmark_9
theorem mX0_unmark (a0 : Option Nat) (a1 : Int32) (a2 : Int32) : MT yX0_unmark cX0_unmark 5 (Option.some Jvm.ClassFile.FieldType.int) 3 64 eI [va_rf a0, .int a1, .int a2] (fX0_unmark a0 a1 a2) :=
  MT.of (L0 := [some (va_rf a0), some (.int a1), some (.int a2), none, none]) (by decide) ⟨ct _, ⟨rfl, ⟨rfl, trivial⟩⟩⟩ (Nat.le_of_ble_eq_true rfl) rfl (fun _ _ hF M z => gX0_unmark hF a0 a1 a2 M z)

theorem fl_X0_270 {G : Cx} {nL fr lc : Nat} {cc : ByteArray} {ret : Option FieldType} {nm : String} (hF : FX G cc nL RX0 ret nm fr lc) : ∀ c ∈ [6], GF G RX0 270 c 1 := by
  obtain ⟨⟨p, l, e, R, s, m, args, below, meth, c0⟩, A, D, dA, mi⟩ := G
  obtain ⟨hx, hb, hml, hown, hts, hr, hlk, hK, hnm, hfr, hlc⟩ := hF
  exact List.forall_mem_cons.mpr ⟨⟨RX6, TX6, 2, "StoryColumns$Mark", rfl, in_X6, Nat.le_of_ble_eq_true rfl, Or.inr ⟨_, (va_Nw.use rfl (hK.2.1 _ n_q885))⟩, fun _ h => h⟩, fun _ h9 => absurd h9 List.not_mem_nil⟩
theorem fl_X0_269 {G : Cx} {nL fr lc : Nat} {cc : ByteArray} {ret : Option FieldType} {nm : String} (hF : FX G cc nL RX0 ret nm fr lc) : ∀ c ∈ [6], GF G RX0 269 c 0 := by
  obtain ⟨⟨p, l, e, R, s, m, args, below, meth, c0⟩, A, D, dA, mi⟩ := G
  obtain ⟨hx, hb, hml, hown, hts, hr, hlk, hK, hnm, hfr, hlc⟩ := hF
  exact List.forall_mem_cons.mpr ⟨⟨RX6, TX6, 2, "StoryColumns$Mark", rfl, in_X6, Nat.le_of_ble_eq_true rfl, Or.inr ⟨_, (va_Nw.use rfl (hK.2.1 _ n_q882))⟩, fun _ h => h⟩, fun _ h9 => absurd h9 List.not_mem_nil⟩
def fX0_ofMark (a0 : Option Nat) (a1 : Int32) (a2 : Int32) (a3 : Int32) (M : Mp) (z : Nat) : Rs Int32 := if ckc M a0 [0] = true then
  (cb (fX0_isBlock a0 a1 M z) z fun v1 M2 z3 =>
if v1 = 0 then
  (some ((-1 : Int32), M2, 0, 0))
else
  (cb (fX0_in a2 (0 : Int32) (1 : Int32) M2 z3) z3 fun v4 M5 z6 =>
if v4 = 0 then
  (some ((-2 : Int32), M5, 0, 0))
else
  (cb (fX0_in a3 (0 : Int32) (1 : Int32) M5 z6) z6 fun v7 M8 z9 =>
if v7 = 0 then
  (some ((-2 : Int32), M8, 0, 0))
else
  ((gr M8 a0 [0] 0).bind fun v10 =>
if ckc M8 v10 [11] = true then
  (cb (fJ2_get v10 a1 M8 z9) z9 fun v11 M12 z13 =>
if cst M12 v11 [2, 3] = true then
  ((gr M12 v11 [2, 3] 8).bind fun v14 =>
(ar M12 3 v14 a2).bind fun v15 =>
if v15 = none then
  (some ((-9 : Int32), M12, 0, 0))
else
  (if a3 = 0 then
  ((gi M12 v15 [6] 0).bind fun v17 =>
some (v17, M12, 0, 0))
else
  ((gi M12 v15 [6] 1).bind fun v16 =>
some (v16, M12, 0, 0))))
else none)
else none))))
else none
theorem gX0_ofMark {G : Cx} {F : Option Value × Mp × Nat} (hF : FX G cX0_ofMark 5 RX0 (Option.some Jvm.ClassFile.FieldType.int) "ofMark" 3 64) (a0 : Option Nat) (a1 : Int32) (a2 : Int32) (a3 : Int32) (M : Mp) (z : Nat) : SK G F 5 eI 0 [some (va_rf a0), some (.int a1), some (.int a2), some (.int a3), none] [] M z (fX0_ofMark a0 a1 a2 a3 M z) := by
  unfold fX0_ofMark
  refine s_aload_n (pc := 0) hF dX0_ofMark_0 rfl rfl ?_
  refine s_iload_n (pc := 1) hF dX0_ofMark_1 rfl rfl ?_
  refine s_callV (pc := 2) (As := [.int a1]) (st := []) (stf := fun r9 => .int r9 :: []) hF (mX0_isBlock a0 a1) cw_X0_isBlock q518 q520 (List.forall_mem_cons.mpr ⟨⟨(RX0, TX0, 6), rfl, qs5⟩, fun _ h9 => absurd h9 List.not_mem_nil⟩) rfl ⟨Nat.le_of_ble_eq_true rfl, Nat.le_of_ble_eq_true rfl⟩ ⟨trivial, Nat.le_of_ble_eq_true rfl⟩ dX0_ofMark_2 rfl (fun _ => rfl) (fun v1 M2 z3 => ?_)
  refine s_if_ne (pc := 5) hF 10 dX0_ofMark_5 rfl ?_ ?_
  · refine s_iload_n (pc := 10) hF dX0_ofMark_10 rfl rfl ?_
    refine s_iconst (pc := 11) hF dX0_ofMark_11 (0 : Int32) (by decide) ?_
    refine s_iconst (pc := 12) hF dX0_ofMark_12 (1 : Int32) (by decide) ?_
    refine s_callS (pc := 13) (As := [.int a2, .int (0 : Int32), .int (1 : Int32)]) (st := []) (stf := fun r9 => .int r9 :: []) hF (mX0_in a2 (0 : Int32) (1 : Int32)) cw_X0_in q145 q146 rfl ⟨Nat.le_of_ble_eq_true rfl, Nat.le_of_ble_eq_true rfl⟩ ⟨trivial, Nat.le_of_ble_eq_true rfl⟩ dX0_ofMark_13 rfl (fun _ => rfl) (fun v4 M5 z6 => ?_)
    refine s_if_eq (pc := 16) hF 28 dX0_ofMark_16 rfl ?_ ?_
    · refine s_bipush (pc := 28) hF dX0_ofMark_28 (-2 : Int32) (by decide) ?_
      exact s_iret (pc := 30) hF dX0_ofMark_30
    · refine s_iload_n (pc := 19) hF dX0_ofMark_19 rfl rfl ?_
      refine s_iconst (pc := 20) hF dX0_ofMark_20 (0 : Int32) (by decide) ?_
      refine s_iconst (pc := 21) hF dX0_ofMark_21 (1 : Int32) (by decide) ?_
      refine s_callS (pc := 22) (As := [.int a3, .int (0 : Int32), .int (1 : Int32)]) (st := []) (stf := fun r9 => .int r9 :: []) hF (mX0_in a3 (0 : Int32) (1 : Int32)) cw_X0_in q145 q146 rfl ⟨Nat.le_of_ble_eq_true rfl, Nat.le_of_ble_eq_true rfl⟩ ⟨trivial, Nat.le_of_ble_eq_true rfl⟩ dX0_ofMark_22 rfl (fun _ => rfl) (fun v7 M8 z9 => ?_)
      refine s_if_ne (pc := 25) hF 31 dX0_ofMark_25 rfl ?_ ?_
      · refine s_aload_n (pc := 31) hF dX0_ofMark_31 rfl rfl ?_
        refine s_getr (pc := 32) hF (fl_X0_14 hF) dX0_ofMark_32 (fun v10 => ?_)
        refine s_iload_n (pc := 35) hF dX0_ofMark_35 rfl rfl ?_
        refine s_callF (pc := 36) (As := [.int a1]) (st := []) (stf := fun r9 => va_rf r9 :: []) (x := ⟨"java/util/List", "get", "(I)Ljava/lang/Object;"⟩) hF (mJ2_get v10 a1) cw_J2_get rfl ⟨by decide, by decide⟩ q523 q356 n_q353 n_q352 n_q357 (List.forall_mem_cons.mpr ⟨⟨(RJ2, TJ2, 3), rfl, q354, n_q355, n_q155⟩, fun _ h9 => absurd h9 List.not_mem_nil⟩) rfl ⟨Nat.le_of_ble_eq_true rfl, Nat.le_of_ble_eq_true rfl⟩ ⟨trivial, Nat.le_of_ble_eq_true rfl⟩ dX0_ofMark_36 rfl (fun _ => rfl) (fun v11 M12 z13 => ?_)
        refine s_cast (pc := 41) hF q252 (List.forall_mem_cons.mpr ⟨⟨(RX2, TX2, 13), rfl, Or.inl rfl⟩, List.forall_mem_cons.mpr ⟨⟨(RX3, TX3, 14), rfl, Or.inr n_q1359⟩, fun _ h9 => absurd h9 List.not_mem_nil⟩⟩) dX0_ofMark_41 ?_
        refine s_getr (pc := 44) hF (fl_X0_260 hF) dX0_ofMark_44 (fun v14 => ?_)
        refine s_iload_n (pc := 47) hF dX0_ofMark_47 rfl rfl ?_
        refine s_aald (pc := 48) 3 (by decide) hF dX0_ofMark_48 (fun v15 => ?_)
        refine s_astore (L9 := [some (va_rf a0), some (.int a1), some (.int a2), some (.int a3), some (va_rf v15)]) (pc := 49) hF dX0_ofMark_49 (Nat.le_of_ble_eq_true rfl) rfl ?_
        refine s_aload (pc := 51) hF dX0_ofMark_51 rfl ?_
        refine s_ifnonnull (pc := 53) hF 61 dX0_ofMark_53 rfl ?_ ?_
        · refine s_iload_n (pc := 61) hF dX0_ofMark_61 rfl rfl ?_
          refine s_if_ne (pc := 62) hF 73 dX0_ofMark_62 rfl ?_ ?_
          · refine s_aload (pc := 73) hF dX0_ofMark_73 rfl ?_
            refine s_geti (pc := 75) hF (fl_X0_270 hF) dX0_ofMark_75 (fun v16 => ?_)
            exact s_iret (pc := 78) hF dX0_ofMark_78
          · refine s_aload (pc := 65) hF dX0_ofMark_65 rfl ?_
            refine s_geti (pc := 67) hF (fl_X0_269 hF) dX0_ofMark_67 (fun v17 => ?_)
            refine s_goto (pc := 70) hF 78 dX0_ofMark_70 rfl ?_
            exact s_iret (pc := 78) hF dX0_ofMark_78
        · refine s_bipush (pc := 56) hF dX0_ofMark_56 (-9 : Int32) (by decide) ?_
          refine s_goto (pc := 58) hF 78 dX0_ofMark_58 rfl ?_
          exact s_iret (pc := 78) hF dX0_ofMark_78
      · refine s_bipush (pc := 28) hF dX0_ofMark_28 (-2 : Int32) (by decide) ?_
        exact s_iret (pc := 30) hF dX0_ofMark_30
  · refine s_iconst (pc := 8) hF dX0_ofMark_8 (-1 : Int32) (by decide) ?_
    exact s_iret (pc := 9) hF dX0_ofMark_9
theorem mX0_ofMark (a0 : Option Nat) (a1 : Int32) (a2 : Int32) (a3 : Int32) : MT yX0_ofMark cX0_ofMark 5 (Option.some Jvm.ClassFile.FieldType.int) 3 64 eI [va_rf a0, .int a1, .int a2, .int a3] (fX0_ofMark a0 a1 a2 a3) :=
  MT.of (L0 := [some (va_rf a0), some (.int a1), some (.int a2), some (.int a3), none]) (by decide) ⟨ct _, ⟨rfl, ⟨rfl, ⟨rfl, trivial⟩⟩⟩⟩ (Nat.le_of_ble_eq_true rfl) rfl (fun _ _ hF M z => gX0_ofMark hF a0 a1 a2 a3 M z)

def fX0_isArticle (a0 : Option Nat) (a1 : Int32) (M : Mp) (z : Nat) : Rs Int32 := if ckc M a0 [0] = true then
  (cb (fX0_knows a0 M z) z fun _ M2 z3 =>
(gr M2 a0 [0] 4).bind fun v4 =>
if ckc M2 v4 [11] = true then
  (cb (fJ2_size v4 M2 z3) z3 fun v5 M6 z7 =>
cb (fX0_in a1 (0 : Int32) (v5 - (1 : Int32)) M6 z7) z7 fun v8 M9 z10 =>
if v8 = 0 ∨ v8 = 1 then some (v8, M9, 0, 0) else none)
else none)
else none
theorem gX0_isArticle {G : Cx} {F : Option Value × Mp × Nat} (hF : FX G cX0_isArticle 2 RX0 (Option.some Jvm.ClassFile.FieldType.boolean) "isArticle" 14 374) (a0 : Option Nat) (a1 : Int32) (M : Mp) (z : Nat) : SK G F 2 eI 0 [some (va_rf a0), some (.int a1)] [] M z (fX0_isArticle a0 a1 M z) := by
  unfold fX0_isArticle
  refine s_aload_n (pc := 0) hF dX0_isArticle_0 rfl rfl ?_
  refine s_callV (pc := 1) (As := []) (st := []) (stf := fun r9 => []) hF (mX0_knows a0) cw_X0_knows q671 q673 (List.forall_mem_cons.mpr ⟨⟨(RX0, TX0, 6), rfl, qs8⟩, fun _ h9 => absurd h9 List.not_mem_nil⟩) rfl ⟨Nat.le_of_ble_eq_true rfl, Nat.le_of_ble_eq_true rfl⟩ ⟨trivial, Nat.le_of_ble_eq_true rfl⟩ dX0_isArticle_1 rfl (fun _ => rfl) (fun v1 M2 z3 => ?_)
  refine s_iload_n (pc := 4) hF dX0_isArticle_4 rfl rfl ?_
  refine s_iconst (pc := 5) hF dX0_isArticle_5 (0 : Int32) (by decide) ?_
  refine s_aload_n (pc := 6) hF dX0_isArticle_6 rfl rfl ?_
  refine s_getr (pc := 7) hF (fl_X0_24 hF) dX0_isArticle_7 (fun v4 => ?_)
  refine s_callF (pc := 10) (As := []) (st := [.int (0 : Int32), .int a1]) (stf := fun r9 => .int r9 :: [.int (0 : Int32), .int a1]) (x := ⟨"java/util/List", "size", "()I"⟩) hF (mJ2_size v4) cw_J2_size rfl ⟨by decide, by decide⟩ q152 q158 n_q154 n_q153 n_q159 (List.forall_mem_cons.mpr ⟨⟨(RJ2, TJ2, 3), rfl, q156, n_q157, n_q155⟩, fun _ h9 => absurd h9 List.not_mem_nil⟩) rfl ⟨Nat.le_of_ble_eq_true rfl, Nat.le_of_ble_eq_true rfl⟩ ⟨⟨rfl, ⟨rfl, trivial⟩⟩, Nat.le_of_ble_eq_true rfl⟩ dX0_isArticle_10 rfl (fun _ => rfl) (fun v5 M6 z7 => ?_)
  refine s_iconst (pc := 15) hF dX0_isArticle_15 (1 : Int32) (by decide) ?_
  refine s_isub (pc := 16) hF dX0_isArticle_16 ?_
  refine s_callS (pc := 17) (As := [.int a1, .int (0 : Int32), .int (v5 - (1 : Int32))]) (st := []) (stf := fun r9 => .int r9 :: []) hF (mX0_in a1 (0 : Int32) (v5 - (1 : Int32))) cw_X0_in q145 q146 rfl ⟨Nat.le_of_ble_eq_true rfl, Nat.le_of_ble_eq_true rfl⟩ ⟨trivial, Nat.le_of_ble_eq_true rfl⟩ dX0_isArticle_17 rfl (fun _ => rfl) (fun v8 M9 z10 => ?_)
  exact s_zret (pc := 20) hF dX0_isArticle_20
theorem mX0_isArticle (a0 : Option Nat) (a1 : Int32) : MT yX0_isArticle cX0_isArticle 2 (Option.some Jvm.ClassFile.FieldType.boolean) 14 374 eI [va_rf a0, .int a1] (fX0_isArticle a0 a1) :=
  MT.of (L0 := [some (va_rf a0), some (.int a1)]) (by decide) ⟨ct _, ⟨rfl, trivial⟩⟩ (Nat.le_of_ble_eq_true rfl) rfl (fun _ _ hF M z => gX0_isArticle hF a0 a1 M z)

theorem pl_X7_1 {G : Cx} {nL fr lc : Nat} {cc : ByteArray} {ret : Option FieldType} (hF : FX G cc nL RX7 ret "<init>" fr lc) (x9 : Option Nat) : ∀ c ∈ [7], PF G RX7 "<init>" 1 c 3 (va_rf x9) := by
  obtain ⟨⟨p, l, e, R, s, m, args, below, meth, c0⟩, A, D, dA, mi⟩ := G
  obtain ⟨hx, hb, hml, hown, hts, hr, hlk, hK, hnm, hfr, hlc⟩ := hF
  exact List.forall_mem_cons.mpr ⟨⟨RX7, TX7, 4, "StoryColumns$1Adding", tyX7 3, rfl, in_X7, Nat.le_of_ble_eq_true rfl, Or.inl ⟨(hts _ q921), Or.inr ⟨rfl, rfl, rfl⟩⟩, fun _ h => h, tyX7_ok 3 (Nat.le_of_ble_eq_true rfl), by cases x9 <;> rfl, by cases x9 <;> rfl, ap_7 hts hK⟩, fun _ h9 => absurd h9 List.not_mem_nil⟩
theorem pl_X7_7 {G : Cx} {nL fr lc : Nat} {cc : ByteArray} {ret : Option FieldType} (hF : FX G cc nL RX7 ret "<init>" fr lc) (x9 : Int32) (h01 : x9 = 0 ∨ x9 = 1) : ∀ c ∈ [7], PF G RX7 "<init>" 7 c 1 (.int x9) := by
  obtain ⟨⟨p, l, e, R, s, m, args, below, meth, c0⟩, A, D, dA, mi⟩ := G
  obtain ⟨hx, hb, hml, hown, hts, hr, hlk, hK, hnm, hfr, hlc⟩ := hF
  exact List.forall_mem_cons.mpr ⟨⟨RX7, TX7, 4, "StoryColumns$1Adding", tyX7 1, rfl, in_X7, Nat.le_of_ble_eq_true rfl, Or.inl ⟨(hts _ q919), Or.inr ⟨rfl, rfl, rfl⟩⟩, fun _ h => h, tyX7_ok 1 (Nat.le_of_ble_eq_true rfl), by rcases h01 with rfl | rfl <;> rfl, by rcases h01 with rfl | rfl <;> rfl, ap_7 hts hK⟩, fun _ h9 => absurd h9 List.not_mem_nil⟩
theorem pl_X7_11 {G : Cx} {nL fr lc : Nat} {cc : ByteArray} {ret : Option FieldType} (hF : FX G cc nL RX7 ret "<init>" fr lc) (x9 : Int32) (h01 : x9 = 0 ∨ x9 = 1) : ∀ c ∈ [7], PF G RX7 "<init>" 11 c 2 (.int x9) := by
  obtain ⟨⟨p, l, e, R, s, m, args, below, meth, c0⟩, A, D, dA, mi⟩ := G
  obtain ⟨hx, hb, hml, hown, hts, hr, hlk, hK, hnm, hfr, hlc⟩ := hF
  exact List.forall_mem_cons.mpr ⟨⟨RX7, TX7, 4, "StoryColumns$1Adding", tyX7 2, rfl, in_X7, Nat.le_of_ble_eq_true rfl, Or.inl ⟨(hts _ q920), Or.inr ⟨rfl, rfl, rfl⟩⟩, fun _ h => h, tyX7_ok 2 (Nat.le_of_ble_eq_true rfl), by rcases h01 with rfl | rfl <;> rfl, by rcases h01 with rfl | rfl <;> rfl, ap_7 hts hK⟩, fun _ h9 => absurd h9 List.not_mem_nil⟩
def fX7_init (a0 : Option Nat) (a1 : Option Nat) (a2 : Int32) (a3 : Int32) (M : Mp) (z : Nat) : Rs Unit := (pu M a0 [7] 3 (va_rf a1)).bind fun M1 =>
if a2 = 0 ∨ a2 = 1 then
  ((pu M1 a0 [7] 1 (.int a2)).bind fun M2 =>
if a3 = 0 ∨ a3 = 1 then
  ((pu M2 a0 [7] 2 (.int a3)).bind fun M3 =>
if a0 = none then none else
  (some ((), M3, 0, 0)))
else none)
else none
theorem gX7_init {G : Cx} {F : Option Value × Mp × Nat} (hF : FX G cX7_init 4 RX7 (Option.none : Option Jvm.ClassFile.FieldType) "<init>" 1 20) (a0 : Option Nat) (a1 : Option Nat) (a2 : Int32) (a3 : Int32) (M : Mp) (z : Nat) : SK G F 4 eV 0 [some (va_rf a0), some (va_rf a1), some (.int a2), some (.int a3)] [] M z (fX7_init a0 a1 a2 a3 M z) := by
  unfold fX7_init
  refine s_aload_n (pc := 0) hF dX7_init_0 rfl rfl ?_
  refine s_aload_n (pc := 1) hF dX7_init_1 rfl rfl ?_
  refine s_put (pc := 2) hF (pl_X7_1 hF _) dX7_init_2 (fun M1 => ?_)
  refine s_aload_n (pc := 5) hF dX7_init_5 rfl rfl ?_
  refine s_iload_n (pc := 6) hF dX7_init_6 rfl rfl ?_
  refine SK.chk fun h01 => ?_
  refine s_put (pc := 7) hF (pl_X7_7 hF _ h01) dX7_init_7 (fun M2 => ?_)
  refine s_aload_n (pc := 10) hF dX7_init_10 rfl rfl ?_
  refine s_iload_n (pc := 11) hF dX7_init_11 rfl rfl ?_
  refine SK.chk fun h01 => ?_
  refine s_put (pc := 12) hF (pl_X7_11 hF _ h01) dX7_init_12 (fun M3 => ?_)
  refine s_aload_n (pc := 15) hF dX7_init_15 rfl rfl ?_
  refine s_oinit (pc := 16) hF q916 ⟨Nat.le_of_ble_eq_true rfl, Nat.le_of_ble_eq_true rfl⟩ ⟨trivial, Nat.le_of_ble_eq_true rfl⟩ dX7_init_16 ?_
  exact s_vret (pc := 19) hF dX7_init_19
theorem mX7_init (a0 : Option Nat) (a1 : Option Nat) (a2 : Int32) (a3 : Int32) : MT yX7_init cX7_init 4 (Option.none : Option Jvm.ClassFile.FieldType) 1 20 eV [va_rf a0, va_rf a1, .int a2, .int a3] (fX7_init a0 a1 a2 a3) :=
  MT.of (L0 := [some (va_rf a0), some (va_rf a1), some (.int a2), some (.int a3)]) (by decide) ⟨ct _, ⟨ct _, ⟨rfl, ⟨rfl, trivial⟩⟩⟩⟩ (Nat.le_of_ble_eq_true rfl) rfl (fun _ _ hF M z => gX7_init hF a0 a1 a2 a3 M z)

theorem pl_X8_1 {G : Cx} {nL fr lc : Nat} {cc : ByteArray} {ret : Option FieldType} (hF : FX G cc nL RX8 ret "<init>" fr lc) (x9 : Option Nat) : ∀ c ∈ [8], PF G RX8 "<init>" 1 c 1 (va_rf x9) := by
  obtain ⟨⟨p, l, e, R, s, m, args, below, meth, c0⟩, A, D, dA, mi⟩ := G
  obtain ⟨hx, hb, hml, hown, hts, hr, hlk, hK, hnm, hfr, hlc⟩ := hF
  exact List.forall_mem_cons.mpr ⟨⟨RX8, TX8, 2, "StoryColumns$1", tyX8 1, rfl, in_X8, Nat.le_of_ble_eq_true rfl, Or.inl ⟨(hts _ q943), Or.inr ⟨rfl, rfl, rfl⟩⟩, fun _ h => h, tyX8_ok 1 (Nat.le_of_ble_eq_true rfl), by cases x9 <;> rfl, by cases x9 <;> rfl, ap_8 hts hK⟩, fun _ h9 => absurd h9 List.not_mem_nil⟩
theorem pl_X8_7 {G : Cx} {nL fr lc : Nat} {cc : ByteArray} {ret : Option FieldType} (hF : FX G cc nL RX8 ret "<init>" fr lc) (x9 : Option Nat) : ∀ c ∈ [8], PF G RX8 "<init>" 7 c 0 (va_rf x9) := by
  obtain ⟨⟨p, l, e, R, s, m, args, below, meth, c0⟩, A, D, dA, mi⟩ := G
  obtain ⟨hx, hb, hml, hown, hts, hr, hlk, hK, hnm, hfr, hlc⟩ := hF
  exact List.forall_mem_cons.mpr ⟨⟨RX8, TX8, 2, "StoryColumns$1", tyX8 0, rfl, in_X8, Nat.le_of_ble_eq_true rfl, Or.inl ⟨(hts _ q941), Or.inr ⟨rfl, rfl, rfl⟩⟩, fun _ h => h, tyX8_ok 0 (Nat.le_of_ble_eq_true rfl), by cases x9 <;> rfl, by cases x9 <;> rfl, ap_8 hts hK⟩, fun _ h9 => absurd h9 List.not_mem_nil⟩
def fX8_init (a0 : Option Nat) (a1 : Option Nat) (a2 : Option Nat) (M : Mp) (z : Nat) : Rs Unit := (pu M a0 [8] 1 (va_rf a1)).bind fun M1 =>
(pu M1 a0 [8] 0 (va_rf a2)).bind fun M2 =>
if a0 = none then none else
  (some ((), M2, 0, 0))
theorem gX8_init {G : Cx} {F : Option Value × Mp × Nat} (hF : FX G cX8_init 3 RX8 (Option.none : Option Jvm.ClassFile.FieldType) "<init>" 1 20) (a0 : Option Nat) (a1 : Option Nat) (a2 : Option Nat) (M : Mp) (z : Nat) : SK G F 3 eV 0 [some (va_rf a0), some (va_rf a1), some (va_rf a2)] [] M z (fX8_init a0 a1 a2 M z) := by
  unfold fX8_init
  refine s_aload_n (pc := 0) hF dX8_init_0 rfl rfl ?_
  refine s_aload_n (pc := 1) hF dX8_init_1 rfl rfl ?_
  refine s_put (pc := 2) hF (pl_X8_1 hF _) dX8_init_2 (fun M1 => ?_)
  refine s_aload_n (pc := 5) hF dX8_init_5 rfl rfl ?_
  refine s_aload_n (pc := 6) hF dX8_init_6 rfl rfl ?_
  refine s_put (pc := 7) hF (pl_X8_7 hF _) dX8_init_7 (fun M2 => ?_)
  refine s_aload_n (pc := 10) hF dX8_init_10 rfl rfl ?_
  refine s_oinit (pc := 11) hF q940 ⟨Nat.le_of_ble_eq_true rfl, Nat.le_of_ble_eq_true rfl⟩ ⟨trivial, Nat.le_of_ble_eq_true rfl⟩ dX8_init_11 ?_
  exact s_vret (pc := 14) hF dX8_init_14
theorem mX8_init (a0 : Option Nat) (a1 : Option Nat) (a2 : Option Nat) : MT yX8_init cX8_init 3 (Option.none : Option Jvm.ClassFile.FieldType) 1 20 eV [va_rf a0, va_rf a1, va_rf a2] (fX8_init a0 a1 a2) :=
  MT.of (L0 := [some (va_rf a0), some (va_rf a1), some (va_rf a2)]) (by decide) ⟨ct _, ⟨ct _, ⟨ct _, trivial⟩⟩⟩ (Nat.le_of_ble_eq_true rfl) rfl (fun _ _ hF M z => gX8_init hF a0 a1 a2 M z)

theorem cw_X8_init : CWm yX8_init cX8_init 3 (Option.none : Option Jvm.ClassFile.FieldType) 2 := ⟨q939, q77, by decide +kernel, by decide +kernel, by decide +kernel⟩
def fX0_chain (a0 : Option Nat) (a1 : Int32) (M : Mp) (z : Nat) : Rs (Option Nat) := (gr M a0 [0] 4).bind fun v1 =>
if ckc M v1 [11] = true then
  (cb (fJ2_get v1 a1 M z) z fun v2 M3 z4 =>
if cst M3 v2 [5] = true then
  (nwo 8 2 [.null, .null] M3 z4 fun M5 z6 =>
if (some z4) = none then none else
  (cb (fX8_init (some z4) a0 v2 M5 z6) z6 fun _ M8 z9 =>
some ((some z4), M8, 0, 0)))
else none)
else none
theorem gX0_chain {G : Cx} {F : Option Value × Mp × Nat} (hF : FX G cX0_chain 3 RX0 (Option.some (Jvm.ClassFile.FieldType.object "java/lang/Iterable")) "chain" 3 64) (a0 : Option Nat) (a1 : Int32) (M : Mp) (z : Nat) : SK G F 3 eR 0 [some (va_rf a0), some (.int a1), none] [] M z (fX0_chain a0 a1 M z) := by
  unfold fX0_chain
  refine s_aload_n (pc := 0) hF dX0_chain_0 rfl rfl ?_
  refine s_getr (pc := 1) hF (fl_X0_24 hF) dX0_chain_1 (fun v1 => ?_)
  refine s_iload_n (pc := 4) hF dX0_chain_4 rfl rfl ?_
  refine s_callF (pc := 5) (As := [.int a1]) (st := []) (stf := fun r9 => va_rf r9 :: []) (x := ⟨"java/util/List", "get", "(I)Ljava/lang/Object;"⟩) hF (mJ2_get v1 a1) cw_J2_get rfl ⟨by decide, by decide⟩ q523 q356 n_q353 n_q352 n_q357 (List.forall_mem_cons.mpr ⟨⟨(RJ2, TJ2, 3), rfl, q354, n_q355, n_q155⟩, fun _ h9 => absurd h9 List.not_mem_nil⟩) rfl ⟨Nat.le_of_ble_eq_true rfl, Nat.le_of_ble_eq_true rfl⟩ ⟨trivial, Nat.le_of_ble_eq_true rfl⟩ dX0_chain_5 rfl (fun _ => rfl) (fun v2 M3 z4 => ?_)
  refine s_cast (pc := 10) hF q685 (List.forall_mem_cons.mpr ⟨⟨(RX5, TX5, 8), rfl, Or.inl rfl⟩, fun _ h9 => absurd h9 List.not_mem_nil⟩) dX0_chain_10 ?_
  refine s_astore_n (L9 := [some (va_rf a0), some (.int a1), some (va_rf v2)]) (pc := 13) hF dX0_chain_13 rfl (Nat.le_of_ble_eq_true rfl) rfl ?_
  refine s_nwo (pc := 14) hF dX0_chain_14 rfl in_X8 tyX8 tyX8_ok q935 q936 q77 (fun j hj => by rcases (show j = 0 ∨ j = 1 by omega) with rfl | rfl <;> rfl) (fun M5 z6 => ?_)
  refine s_dup (pc := 17) hF dX0_chain_17 (ct _) ?_
  refine s_aload_n (pc := 18) hF dX0_chain_18 rfl rfl ?_
  refine s_aload_n (pc := 19) hF dX0_chain_19 rfl rfl ?_
  refine s_callJ (pc := 20) (As := [va_rf a0, va_rf v2]) (st := [va_rf (some z4)]) (stf := fun r9 => [va_rf (some z4)]) hF (mX8_init (some z4) a0 v2) cw_X8_init q937 q938 rfl rfl ⟨Nat.le_of_ble_eq_true rfl, Nat.le_of_ble_eq_true rfl⟩ ⟨⟨ct _, trivial⟩, Nat.le_of_ble_eq_true rfl⟩ dX0_chain_20 rfl (fun _ => rfl) (fun v7 M8 z9 => ?_)
  exact s_aret (pc := 23) hF rfl (Or.inl ⟨_, rfl⟩) dX0_chain_23
theorem mX0_chain (a0 : Option Nat) (a1 : Int32) : MT yX0_chain cX0_chain 3 (Option.some (Jvm.ClassFile.FieldType.object "java/lang/Iterable")) 3 64 eR [va_rf a0, .int a1] (fX0_chain a0 a1) :=
  MT.of (L0 := [some (va_rf a0), some (.int a1), none]) (by decide) ⟨ct _, ⟨rfl, trivial⟩⟩ (Nat.le_of_ble_eq_true rfl) rfl (fun _ _ hF M z => gX0_chain hF a0 a1 M z)

theorem pl_X9_1 {G : Cx} {nL fr lc : Nat} {cc : ByteArray} {ret : Option FieldType} (hF : FX G cc nL RX9 ret "<init>" fr lc) (x9 : Option Nat) : ∀ c ∈ [9], PF G RX9 "<init>" 1 c 1 (va_rf x9) := by
  obtain ⟨⟨p, l, e, R, s, m, args, below, meth, c0⟩, A, D, dA, mi⟩ := G
  obtain ⟨hx, hb, hml, hown, hts, hr, hlk, hK, hnm, hfr, hlc⟩ := hF
  exact List.forall_mem_cons.mpr ⟨⟨RX9, TX9, 2, "StoryColumns$1$1", tyX9 1, rfl, in_X9, Nat.le_of_ble_eq_true rfl, Or.inl ⟨(hts _ q966), Or.inr ⟨rfl, rfl, rfl⟩⟩, fun _ h => h, tyX9_ok 1 (Nat.le_of_ble_eq_true rfl), by cases x9 <;> rfl, by cases x9 <;> rfl, ap_9 hts hK⟩, fun _ h9 => absurd h9 List.not_mem_nil⟩
theorem fl_X9_1 {G : Cx} {nL fr lc : Nat} {cc : ByteArray} {ret : Option FieldType} {nm : String} (hF : FX G cc nL RX9 ret nm fr lc) : ∀ c ∈ [9], GF G RX9 1 c 1 := by
  obtain ⟨⟨p, l, e, R, s, m, args, below, meth, c0⟩, A, D, dA, mi⟩ := G
  obtain ⟨hx, hb, hml, hown, hts, hr, hlk, hK, hnm, hfr, hlc⟩ := hF
  exact List.forall_mem_cons.mpr ⟨⟨RX9, TX9, 2, "StoryColumns$1$1", rfl, in_X9, Nat.le_of_ble_eq_true rfl, Or.inl (hts _ q966), fun _ h => h⟩, fun _ h9 => absurd h9 List.not_mem_nil⟩
theorem fl_X9_13 {G : Cx} {nL fr lc : Nat} {cc : ByteArray} {ret : Option FieldType} {nm : String} (hF : FX G cc nL RX9 ret nm fr lc) : ∀ c ∈ [8], GF G RX9 13 c 0 := by
  obtain ⟨⟨p, l, e, R, s, m, args, below, meth, c0⟩, A, D, dA, mi⟩ := G
  obtain ⟨hx, hb, hml, hown, hts, hr, hlk, hK, hnm, hfr, hlc⟩ := hF
  exact List.forall_mem_cons.mpr ⟨⟨RX8, TX8, 2, "StoryColumns$1", rfl, in_X8, Nat.le_of_ble_eq_true rfl, Or.inl (hts _ q942), fun _ h => h⟩, fun _ h9 => absurd h9 List.not_mem_nil⟩
theorem pl_X9_19 {G : Cx} {nL fr lc : Nat} {cc : ByteArray} {ret : Option FieldType} {nm : String} (hF : FX G cc nL RX9 ret nm fr lc) (x9 : Option Nat) : ∀ c ∈ [9], PF G RX9 nm 19 c 0 (va_rf x9) := by
  obtain ⟨⟨p, l, e, R, s, m, args, below, meth, c0⟩, A, D, dA, mi⟩ := G
  obtain ⟨hx, hb, hml, hown, hts, hr, hlk, hK, hnm, hfr, hlc⟩ := hF
  exact List.forall_mem_cons.mpr ⟨⟨RX9, TX9, 2, "StoryColumns$1$1", tyX9 0, rfl, in_X9, Nat.le_of_ble_eq_true rfl, Or.inl ⟨(hts _ q965), Or.inl rfl⟩, fun _ h => h, tyX9_ok 0 (Nat.le_of_ble_eq_true rfl), by cases x9 <;> rfl, by cases x9 <;> rfl, ap_9 hts hK⟩, fun _ h9 => absurd h9 List.not_mem_nil⟩
def fX9_init (a0 : Option Nat) (a1 : Option Nat) (M : Mp) (z : Nat) : Rs Unit := (pu M a0 [9] 1 (va_rf a1)).bind fun M1 =>
if a0 = none then none else
  ((gr M1 a0 [9] 1).bind fun v2 =>
(gr M1 v2 [8] 0).bind fun v3 =>
(pu M1 a0 [9] 0 (va_rf v3)).bind fun M4 =>
some ((), M4, 0, 0))
theorem gX9_init {G : Cx} {F : Option Value × Mp × Nat} (hF : FX G cX9_init 2 RX9 (Option.none : Option Jvm.ClassFile.FieldType) "<init>" 1 20) (a0 : Option Nat) (a1 : Option Nat) (M : Mp) (z : Nat) : SK G F 2 eV 0 [some (va_rf a0), some (va_rf a1)] [] M z (fX9_init a0 a1 M z) := by
  unfold fX9_init
  refine s_aload_n (pc := 0) hF dX9_init_0 rfl rfl ?_
  refine s_aload_n (pc := 1) hF dX9_init_1 rfl rfl ?_
  refine s_put (pc := 2) hF (pl_X9_1 hF _) dX9_init_2 (fun M1 => ?_)
  refine s_aload_n (pc := 5) hF dX9_init_5 rfl rfl ?_
  refine s_oinit (pc := 6) hF q964 ⟨Nat.le_of_ble_eq_true rfl, Nat.le_of_ble_eq_true rfl⟩ ⟨trivial, Nat.le_of_ble_eq_true rfl⟩ dX9_init_6 ?_
  refine s_aload_n (pc := 9) hF dX9_init_9 rfl rfl ?_
  refine s_aload_n (pc := 10) hF dX9_init_10 rfl rfl ?_
  refine s_getr (pc := 11) hF (fl_X9_1 hF) dX9_init_11 (fun v2 => ?_)
  refine s_getr (pc := 14) hF (fl_X9_13 hF) dX9_init_14 (fun v3 => ?_)
  refine s_put (pc := 17) hF (pl_X9_19 hF _) dX9_init_17 (fun M4 => ?_)
  exact s_vret (pc := 20) hF dX9_init_20
theorem mX9_init (a0 : Option Nat) (a1 : Option Nat) : MT yX9_init cX9_init 2 (Option.none : Option Jvm.ClassFile.FieldType) 1 20 eV [va_rf a0, va_rf a1] (fX9_init a0 a1) :=
  MT.of (L0 := [some (va_rf a0), some (va_rf a1)]) (by decide) ⟨ct _, ⟨ct _, trivial⟩⟩ (Nat.le_of_ble_eq_true rfl) rfl (fun _ _ hF M z => gX9_init hF a0 a1 M z)

theorem cw_X9_init : CWm yX9_init cX9_init 2 (Option.none : Option Jvm.ClassFile.FieldType) 1 := ⟨q963, q78, by decide +kernel, by decide +kernel, by decide +kernel⟩
def fX8_iterator (a0 : Option Nat) (M : Mp) (z : Nat) : Rs (Option Nat) := nwo 9 2 [.null, .null] M z fun M1 z2 =>
if (some z) = none then none else
  (cb (fX9_init (some z) a0 M1 z2) z2 fun _ M4 z5 =>
some ((some z), M4, 0, 0))
theorem gX8_iterator {G : Cx} {F : Option Value × Mp × Nat} (hF : FX G cX8_iterator 1 RX8 (Option.some (Jvm.ClassFile.FieldType.object "java/util/Iterator")) "iterator" 2 41) (a0 : Option Nat) (M : Mp) (z : Nat) : SK G F 1 eR 0 [some (va_rf a0)] [] M z (fX8_iterator a0 M z) := by
  unfold fX8_iterator
  refine s_nwo (pc := 0) hF dX8_iterator_0 rfl in_X9 tyX9 tyX9_ok q959 q960 q78 (fun j hj => by rcases (show j = 0 ∨ j = 1 by omega) with rfl | rfl <;> rfl) (fun M1 z2 => ?_)
  refine s_dup (pc := 3) hF dX8_iterator_3 (ct _) ?_
  refine s_aload_n (pc := 4) hF dX8_iterator_4 rfl rfl ?_
  refine s_callJ (pc := 5) (As := [va_rf a0]) (st := [va_rf (some z)]) (stf := fun r9 => [va_rf (some z)]) hF (mX9_init (some z) a0) cw_X9_init q961 q962 rfl rfl ⟨Nat.le_of_ble_eq_true rfl, Nat.le_of_ble_eq_true rfl⟩ ⟨⟨ct _, trivial⟩, Nat.le_of_ble_eq_true rfl⟩ dX8_iterator_5 rfl (fun _ => rfl) (fun v3 M4 z5 => ?_)
  exact s_aret (pc := 8) hF rfl (Or.inl ⟨_, rfl⟩) dX8_iterator_8
theorem mX8_iterator (a0 : Option Nat) : MT yX8_iterator cX8_iterator 1 (Option.some (Jvm.ClassFile.FieldType.object "java/util/Iterator")) 2 41 eR [va_rf a0] (fX8_iterator a0) :=
  MT.of (L0 := [some (va_rf a0)]) (by decide) ⟨ct _, trivial⟩ (Nat.le_of_ble_eq_true rfl) rfl (fun _ _ hF M z => gX8_iterator hF a0 M z)

theorem fl_X9_19 {G : Cx} {nL fr lc : Nat} {cc : ByteArray} {ret : Option FieldType} {nm : String} (hF : FX G cc nL RX9 ret nm fr lc) : ∀ c ∈ [9], GF G RX9 19 c 0 := by
  obtain ⟨⟨p, l, e, R, s, m, args, below, meth, c0⟩, A, D, dA, mi⟩ := G
  obtain ⟨hx, hb, hml, hown, hts, hr, hlk, hK, hnm, hfr, hlc⟩ := hF
  exact List.forall_mem_cons.mpr ⟨⟨RX9, TX9, 2, "StoryColumns$1$1", rfl, in_X9, Nat.le_of_ble_eq_true rfl, Or.inl (hts _ q965), fun _ h => h⟩, fun _ h9 => absurd h9 List.not_mem_nil⟩
def fX9_hasNext (a0 : Option Nat) (M : Mp) (z : Nat) : Rs Int32 := (gr M a0 [9] 0).bind fun v1 =>
if v1 = none then
  (some ((0 : Int32), M, 0, 0))
else
  (some ((1 : Int32), M, 0, 0))
theorem gX9_hasNext {G : Cx} {F : Option Value × Mp × Nat} (hF : FX G cX9_hasNext 1 RX9 (Option.some Jvm.ClassFile.FieldType.boolean) "hasNext" 0 0) (a0 : Option Nat) (M : Mp) (z : Nat) : SK G F 1 eI 0 [some (va_rf a0)] [] M z (fX9_hasNext a0 M z) := by
  unfold fX9_hasNext
  refine s_aload_n (pc := 0) hF dX9_hasNext_0 rfl rfl ?_
  refine s_getr (pc := 1) hF (fl_X9_19 hF) dX9_hasNext_1 (fun v1 => ?_)
  refine s_ifnull (pc := 4) hF 11 dX9_hasNext_4 rfl ?_ ?_
  · refine s_iconst (pc := 11) hF dX9_hasNext_11 (0 : Int32) (by decide) ?_
    exact s_zretL (pc := 12) hF dX9_hasNext_12 (by decide)
  · refine s_iconst (pc := 7) hF dX9_hasNext_7 (1 : Int32) (by decide) ?_
    refine s_goto (pc := 8) hF 12 dX9_hasNext_8 rfl ?_
    exact s_zretL (pc := 12) hF dX9_hasNext_12 (by decide)
theorem mX9_hasNext (a0 : Option Nat) : MT yX9_hasNext cX9_hasNext 1 (Option.some Jvm.ClassFile.FieldType.boolean) 0 0 eI [va_rf a0] (fX9_hasNext a0) :=
  MT.of (L0 := [some (va_rf a0)]) (by decide) ⟨ct _, trivial⟩ (Nat.le_of_ble_eq_true rfl) rfl (fun _ _ hF M z => gX9_hasNext hF a0 M z)

theorem fl_X9_22 {G : Cx} {nL fr lc : Nat} {cc : ByteArray} {ret : Option FieldType} {nm : String} (hF : FX G cc nL RX9 ret nm fr lc) : ∀ c ∈ [5], GF G RX9 22 c 4 := by
  obtain ⟨⟨p, l, e, R, s, m, args, below, meth, c0⟩, A, D, dA, mi⟩ := G
  obtain ⟨hx, hb, hml, hown, hts, hr, hlk, hK, hnm, hfr, hlc⟩ := hF
  exact List.forall_mem_cons.mpr ⟨⟨RX5, TX5, 8, "StoryColumns$Story", rfl, in_X5, Nat.le_of_ble_eq_true rfl, Or.inr ⟨_, (va_Nw.use rfl (hK.2.1 _ n_q704))⟩, fun _ h => h⟩, fun _ h9 => absurd h9 List.not_mem_nil⟩
def fX9_next_2_J34 (l1 : Option Nat) (s0 : Option Nat) (s1 : Option Nat) (M : Mp) (z : Nat) : Rs (Option Nat) := (pu M s0 [9] 0 (va_rf s1)).bind fun M1 =>
some (l1, M1, 0, 0)

theorem gX9_next_2_J34 {G : Cx} {F : Option Value × Mp × Nat} (hF : FX G cX9_next_2 2 RX9 (Option.some (Jvm.ClassFile.FieldType.object "StoryColumns$Story")) "next" 0 0) (l1 : Option Nat) (s0 : Option Nat) (s1 : Option Nat) (M : Mp) (z : Nat) : SK G F 2 eR 34 [none, some (va_rf l1)] [va_rf s1, va_rf s0] M z (fX9_next_2_J34 l1 s0 s1 M z) := by
  unfold fX9_next_2_J34
  refine s_put (pc := 34) hF (pl_X9_19 hF _) dX9_next_2_34 (fun M1 => ?_)
  refine s_aload_n (pc := 37) hF dX9_next_2_37 rfl rfl ?_
  exact s_aret (pc := 38) hF rfl (Or.inl ⟨_, rfl⟩) dX9_next_2_38
def fX9_next_2 (a0 : Option Nat) (M : Mp) (z : Nat) : Rs (Option Nat) := (gr M a0 [9] 0).bind fun v1 =>
(gr M a0 [9] 0).bind fun v2 =>
(gr M v2 [5] 4).bind fun v3 =>
(gr M a0 [9] 1).bind fun v4 =>
(gr M v4 [8] 0).bind fun v5 =>
if v3 = v5 then
  (fX9_next_2_J34 v1 a0 none M z)
else
  ((gr M a0 [9] 0).bind fun v6 =>
(gr M v6 [5] 4).bind fun v7 =>
fX9_next_2_J34 v1 a0 v7 M z)
theorem gX9_next_2 {G : Cx} {F : Option Value × Mp × Nat} (hF : FX G cX9_next_2 2 RX9 (Option.some (Jvm.ClassFile.FieldType.object "StoryColumns$Story")) "next" 0 0) (a0 : Option Nat) (M : Mp) (z : Nat) : SK G F 2 eR 0 [some (va_rf a0), none] [] M z (fX9_next_2 a0 M z) := by
  unfold fX9_next_2
  refine s_aload_n (pc := 0) hF dX9_next_2_0 rfl rfl ?_
  refine s_getr (pc := 1) hF (fl_X9_19 hF) dX9_next_2_1 (fun v1 => ?_)
  refine s_astore_n (L9 := [some (va_rf a0), some (va_rf v1)]) (pc := 4) hF dX9_next_2_4 rfl (Nat.le_of_ble_eq_true rfl) rfl ?_
  refine s_aload_n (pc := 5) hF dX9_next_2_5 rfl rfl ?_
  refine s_aload_n (pc := 6) hF dX9_next_2_6 rfl rfl ?_
  refine s_getr (pc := 7) hF (fl_X9_19 hF) dX9_next_2_7 (fun v2 => ?_)
  refine s_getr (pc := 10) hF (fl_X9_22 hF) dX9_next_2_10 (fun v3 => ?_)
  refine s_aload_n (pc := 13) hF dX9_next_2_13 rfl rfl ?_
  refine s_getr (pc := 14) hF (fl_X9_1 hF) dX9_next_2_14 (fun v4 => ?_)
  refine s_getr (pc := 17) hF (fl_X9_13 hF) dX9_next_2_17 (fun v5 => ?_)
  refine s_acmp_ne (pc := 20) hF 27 dX9_next_2_20 rfl ?_ ?_
  · refine s_aload_n (pc := 27) hF dX9_next_2_27 rfl rfl ?_
    refine s_getr (pc := 28) hF (fl_X9_19 hF) dX9_next_2_28 (fun v6 => ?_)
    refine s_getr (pc := 31) hF (fl_X9_22 hF) dX9_next_2_31 (fun v7 => ?_)
    exact SK.sb (gX9_next_2_J34 hF v1 a0 v7 M z) ⟨rfl, trivial⟩
  · refine s_null (pc := 23) hF dX9_next_2_23 ?_
    refine s_goto (pc := 24) hF 34 dX9_next_2_24 rfl ?_
    exact SK.sb (gX9_next_2_J34 hF v1 a0 none M z) ⟨rfl, trivial⟩
theorem mX9_next_2 (a0 : Option Nat) : MT yX9_next_2 cX9_next_2 2 (Option.some (Jvm.ClassFile.FieldType.object "StoryColumns$Story")) 0 0 eR [va_rf a0] (fX9_next_2 a0) :=
  MT.of (L0 := [some (va_rf a0), none]) (by decide) ⟨ct _, trivial⟩ (Nat.le_of_ble_eq_true rfl) rfl (fun _ _ hF M z => gX9_next_2 hF a0 M z)

theorem cw_X9_next_2 : CWm yX9_next_2 cX9_next_2 2 (Option.some (Jvm.ClassFile.FieldType.object "StoryColumns$Story")) 0 := ⟨q340, q78, by decide +kernel, by decide +kernel, by decide +kernel⟩
def fX9_next (a0 : Option Nat) (M : Mp) (z : Nat) : Rs (Option Nat) := if ckc M a0 [9] = true then
  (cb (fX9_next_2 a0 M z) z fun v1 M2 z3 =>
some (v1, M2, 0, 0))
else none
theorem gX9_next {G : Cx} {F : Option Value × Mp × Nat} (hF : FX G cX9_next 1 RX9 (Option.some (Jvm.ClassFile.FieldType.object "java/lang/Object")) "next" 1 21) (a0 : Option Nat) (M : Mp) (z : Nat) : SK G F 1 eR 0 [some (va_rf a0)] [] M z (fX9_next a0 M z) := by
  unfold fX9_next
  refine s_aload_n (pc := 0) hF dX9_next_0 rfl rfl ?_
  refine s_callV (pc := 1) (As := []) (st := []) (stf := fun r9 => va_rf r9 :: []) hF (mX9_next_2 a0) cw_X9_next_2 q337 q338 (List.forall_mem_cons.mpr ⟨⟨(RX9, TX9, 2), rfl, q339⟩, fun _ h9 => absurd h9 List.not_mem_nil⟩) rfl ⟨Nat.le_of_ble_eq_true rfl, Nat.le_of_ble_eq_true rfl⟩ ⟨trivial, Nat.le_of_ble_eq_true rfl⟩ dX9_next_1 rfl (fun _ => rfl) (fun v1 M2 z3 => ?_)
  exact s_aret (pc := 4) hF rfl (Or.inl ⟨_, rfl⟩) dX9_next_4
theorem mX9_next (a0 : Option Nat) : MT yX9_next cX9_next 1 (Option.some (Jvm.ClassFile.FieldType.object "java/lang/Object")) 1 21 eR [va_rf a0] (fX9_next a0) :=
  MT.of (L0 := [some (va_rf a0)]) (by decide) ⟨ct _, trivial⟩ (Nat.le_of_ble_eq_true rfl) rfl (fun _ _ hF M z => gX9_next hF a0 M z)

theorem fl_X7_20 {G : Cx} {nL fr lc : Nat} {cc : ByteArray} {ret : Option FieldType} {nm : String} (hF : FX G cc nL RX7 ret nm fr lc) : ∀ c ∈ [7], GF G RX7 20 c 0 := by
  obtain ⟨⟨p, l, e, R, s, m, args, below, meth, c0⟩, A, D, dA, mi⟩ := G
  obtain ⟨hx, hb, hml, hown, hts, hr, hlk, hK, hnm, hfr, hlc⟩ := hF
  exact List.forall_mem_cons.mpr ⟨⟨RX7, TX7, 4, "StoryColumns$1Adding", rfl, in_X7, Nat.le_of_ble_eq_true rfl, Or.inl (hts _ q917), fun _ h => h⟩, fun _ h9 => absurd h9 List.not_mem_nil⟩
theorem fl_X7_7 {G : Cx} {nL fr lc : Nat} {cc : ByteArray} {ret : Option FieldType} {nm : String} (hF : FX G cc nL RX7 ret nm fr lc) : ∀ c ∈ [7], GF G RX7 7 c 1 := by
  obtain ⟨⟨p, l, e, R, s, m, args, below, meth, c0⟩, A, D, dA, mi⟩ := G
  obtain ⟨hx, hb, hml, hown, hts, hr, hlk, hK, hnm, hfr, hlc⟩ := hF
  exact List.forall_mem_cons.mpr ⟨⟨RX7, TX7, 4, "StoryColumns$1Adding", rfl, in_X7, Nat.le_of_ble_eq_true rfl, Or.inl (hts _ q919), fun _ h => h⟩, fun _ h9 => absurd h9 List.not_mem_nil⟩
theorem fl_X7_11 {G : Cx} {nL fr lc : Nat} {cc : ByteArray} {ret : Option FieldType} {nm : String} (hF : FX G cc nL RX7 ret nm fr lc) : ∀ c ∈ [7], GF G RX7 11 c 2 := by
  obtain ⟨⟨p, l, e, R, s, m, args, below, meth, c0⟩, A, D, dA, mi⟩ := G
  obtain ⟨hx, hb, hml, hown, hts, hr, hlk, hK, hnm, hfr, hlc⟩ := hF
  exact List.forall_mem_cons.mpr ⟨⟨RX7, TX7, 4, "StoryColumns$1Adding", rfl, in_X7, Nat.le_of_ble_eq_true rfl, Or.inl (hts _ q920), fun _ h => h⟩, fun _ h9 => absurd h9 List.not_mem_nil⟩
theorem pl_X7_20 {G : Cx} {nL fr lc : Nat} {cc : ByteArray} {ret : Option FieldType} {nm : String} (hF : FX G cc nL RX7 ret nm fr lc) (x9 : Int32) : ∀ c ∈ [7], PF G RX7 nm 20 c 0 (.int x9) := by
  obtain ⟨⟨p, l, e, R, s, m, args, below, meth, c0⟩, A, D, dA, mi⟩ := G
  obtain ⟨hx, hb, hml, hown, hts, hr, hlk, hK, hnm, hfr, hlc⟩ := hF
  exact List.forall_mem_cons.mpr ⟨⟨RX7, TX7, 4, "StoryColumns$1Adding", tyX7 0, rfl, in_X7, Nat.le_of_ble_eq_true rfl, Or.inl ⟨(hts _ q917), Or.inl rfl⟩, fun _ h => h, tyX7_ok 0 (Nat.le_of_ble_eq_true rfl), rfl, rfl, ap_7 hts hK⟩, fun _ h9 => absurd h9 List.not_mem_nil⟩
theorem fl_X7_30 {G : Cx} {nL fr lc : Nat} {cc : ByteArray} {ret : Option FieldType} {nm : String} (hF : FX G cc nL RX7 ret nm fr lc) : ∀ c ∈ [5], GF G RX7 30 c 1 := by
  obtain ⟨⟨p, l, e, R, s, m, args, below, meth, c0⟩, A, D, dA, mi⟩ := G
  obtain ⟨hx, hb, hml, hown, hts, hr, hlk, hK, hnm, hfr, hlc⟩ := hF
  exact List.forall_mem_cons.mpr ⟨⟨RX5, TX5, 8, "StoryColumns$Story", rfl, in_X5, Nat.le_of_ble_eq_true rfl, Or.inr ⟨_, (va_Nw.use rfl (hK.2.1 _ n_q698))⟩, fun _ h => h⟩, fun _ h9 => absurd h9 List.not_mem_nil⟩
def fX7_adds_J39 (s0 : Option Nat) (s1 : Int32) (s2 : Int32) (M : Mp) (z : Nat) : Rs Unit := (pu M s0 [7] 0 (.int (s1 + s2))).bind fun M1 =>
some ((), M1, 0, 0)

theorem gX7_adds_J39 {G : Cx} {F : Option Value × Mp × Nat} (hF : FX G cX7_adds 2 RX7 (Option.none : Option Jvm.ClassFile.FieldType) "adds" 4 84) (s0 : Option Nat) (s1 : Int32) (s2 : Int32) (M : Mp) (z : Nat) : SK G F 2 eV 39 [none, none] [.int s2, .int s1, va_rf s0] M z (fX7_adds_J39 s0 s1 s2 M z) := by
  unfold fX7_adds_J39
  refine s_iadd (pc := 39) hF dX7_adds_39 ?_
  refine s_put (pc := 40) hF (pl_X7_20 hF _) dX7_adds_40 (fun M1 => ?_)
  exact s_vret (pc := 43) hF dX7_adds_43
def fX7_adds (a0 : Option Nat) (a1 : Option Nat) (M : Mp) (z : Nat) : Rs Unit := (gi M a0 [7] 0).bind fun v1 =>
(gi M a0 [7] 1).bind fun v2 =>
if v2 = 0 then
  ((gi M a0 [7] 2).bind fun v3 =>
if v3 = 0 then
  (fX7_adds_J39 a0 v1 (1 : Int32) M z)
else
  ((gr M a1 [5] 1).bind fun v4 =>
if ckc M v4 [11] = true then
  (cb (fJ2_size v4 M z) z fun v5 M6 z7 =>
fX7_adds_J39 a0 v1 v5 M6 z7)
else none))
else
  (if ckc M a1 [5] = true then
  (cb (fX5_words a1 M z) z fun v8 M9 z10 =>
fX7_adds_J39 a0 v1 v8 M9 z10)
else none)
theorem gX7_adds {G : Cx} {F : Option Value × Mp × Nat} (hF : FX G cX7_adds 2 RX7 (Option.none : Option Jvm.ClassFile.FieldType) "adds" 4 84) (a0 : Option Nat) (a1 : Option Nat) (M : Mp) (z : Nat) : SK G F 2 eV 0 [some (va_rf a0), some (va_rf a1)] [] M z (fX7_adds a0 a1 M z) := by
  unfold fX7_adds
  refine s_aload_n (pc := 0) hF dX7_adds_0 rfl rfl ?_
  refine s_dup (pc := 1) hF dX7_adds_1 (ct _) ?_
  refine s_geti (pc := 2) hF (fl_X7_20 hF) dX7_adds_2 (fun v1 => ?_)
  refine s_aload_n (pc := 5) hF dX7_adds_5 rfl rfl ?_
  refine s_geti (pc := 6) hF (fl_X7_7 hF) dX7_adds_6 (fun v2 => ?_)
  refine s_if_eq (pc := 9) hF 19 dX7_adds_9 rfl ?_ ?_
  · refine s_aload_n (pc := 19) hF dX7_adds_19 rfl rfl ?_
    refine s_geti (pc := 20) hF (fl_X7_11 hF) dX7_adds_20 (fun v3 => ?_)
    refine s_if_eq (pc := 23) hF 38 dX7_adds_23 rfl ?_ ?_
    · refine s_iconst (pc := 38) hF dX7_adds_38 (1 : Int32) (by decide) ?_
      exact SK.sb (gX7_adds_J39 hF a0 v1 (1 : Int32) M z) trivial
    · refine s_aload_n (pc := 26) hF dX7_adds_26 rfl rfl ?_
      refine s_getr (pc := 27) hF (fl_X7_30 hF) dX7_adds_27 (fun v4 => ?_)
      refine s_callF (pc := 30) (As := []) (st := [.int v1, va_rf a0]) (stf := fun r9 => .int r9 :: [.int v1, va_rf a0]) (x := ⟨"java/util/List", "size", "()I"⟩) hF (mJ2_size v4) cw_J2_size rfl ⟨by decide, by decide⟩ q980 q158 n_q154 n_q153 n_q159 (List.forall_mem_cons.mpr ⟨⟨(RJ2, TJ2, 3), rfl, q156, n_q157, n_q155⟩, fun _ h9 => absurd h9 List.not_mem_nil⟩) rfl ⟨Nat.le_of_ble_eq_true rfl, Nat.le_of_ble_eq_true rfl⟩ ⟨⟨rfl, ⟨ct _, trivial⟩⟩, Nat.le_of_ble_eq_true rfl⟩ dX7_adds_30 rfl (fun _ => rfl) (fun v5 M6 z7 => ?_)
      refine s_goto (pc := 35) hF 39 dX7_adds_35 rfl ?_
      exact SK.sb (gX7_adds_J39 hF a0 v1 v5 M6 z7) trivial
  · refine s_aload_n (pc := 12) hF dX7_adds_12 rfl rfl ?_
    refine s_callV (pc := 13) (As := []) (st := [.int v1, va_rf a0]) (stf := fun r9 => .int r9 :: [.int v1, va_rf a0]) hF (mX5_words a1) cw_X5_words q978 q852 (List.forall_mem_cons.mpr ⟨⟨(RX5, TX5, 8), rfl, q853⟩, fun _ h9 => absurd h9 List.not_mem_nil⟩) rfl ⟨Nat.le_of_ble_eq_true rfl, Nat.le_of_ble_eq_true rfl⟩ ⟨⟨rfl, ⟨ct _, trivial⟩⟩, Nat.le_of_ble_eq_true rfl⟩ dX7_adds_13 rfl (fun _ => rfl) (fun v8 M9 z10 => ?_)
    refine s_goto (pc := 16) hF 39 dX7_adds_16 rfl ?_
    exact SK.sb (gX7_adds_J39 hF a0 v1 v8 M9 z10) trivial
theorem mX7_adds (a0 : Option Nat) (a1 : Option Nat) : MT yX7_adds cX7_adds 2 (Option.none : Option Jvm.ClassFile.FieldType) 4 84 eV [va_rf a0, va_rf a1] (fX7_adds a0 a1) :=
  MT.of (L0 := [some (va_rf a0), some (va_rf a1)]) (by decide) ⟨ct _, ⟨ct _, trivial⟩⟩ (Nat.le_of_ble_eq_true rfl) rfl (fun _ _ hF M z => gX7_adds hF a0 a1 M z)

theorem fl_X0_293 {G : Cx} {nL fr lc : Nat} {cc : ByteArray} {ret : Option FieldType} {nm : String} (hF : FX G cc nL RX0 ret nm fr lc) : ∀ c ∈ [7], GF G RX0 293 c 0 := by
  obtain ⟨⟨p, l, e, R, s, m, args, below, meth, c0⟩, A, D, dA, mi⟩ := G
  obtain ⟨hx, hb, hml, hown, hts, hr, hlk, hK, hnm, hfr, hlc⟩ := hF
  exact List.forall_mem_cons.mpr ⟨⟨RX7, TX7, 4, "StoryColumns$1Adding", rfl, in_X7, Nat.le_of_ble_eq_true rfl, Or.inr ⟨_, (va_Nw.use rfl (hK.2.1 _ n_q918))⟩, fun _ h => h⟩, fun _ h9 => absurd h9 List.not_mem_nil⟩
theorem cw_X7_adds : CWm yX7_adds cX7_adds 2 (Option.none : Option Jvm.ClassFile.FieldType) 1 := ⟨q977, q76, by decide +kernel, by decide +kernel, by decide +kernel⟩
theorem cw_X9_next : CWm yX9_next cX9_next 1 (Option.some (Jvm.ClassFile.FieldType.object "java/lang/Object")) 0 := ⟨q336, q78, by decide +kernel, by decide +kernel, by decide +kernel⟩
theorem cw_X9_hasNext : CWm yX9_hasNext cX9_hasNext 1 (Option.some Jvm.ClassFile.FieldType.boolean) 0 := ⟨q306, q78, by decide +kernel, by decide +kernel, by decide +kernel⟩
theorem cw_X8_iterator : CWm yX8_iterator cX8_iterator 1 (Option.some (Jvm.ClassFile.FieldType.object "java/util/Iterator")) 0 := ⟨q958, q77, by decide +kernel, by decide +kernel, by decide +kernel⟩
theorem cw_X0_chain : CWm yX0_chain cX0_chain 3 (Option.some (Jvm.ClassFile.FieldType.object "java/lang/Iterable")) 1 := ⟨q934, q59, by decide +kernel, by decide +kernel, by decide +kernel⟩
theorem cw_X7_init : CWm yX7_init cX7_init 4 (Option.none : Option Jvm.ClassFile.FieldType) 3 := ⟨q915, q76, by decide +kernel, by decide +kernel, by decide +kernel⟩
def fX0_sum_L24 : Nat → Option Nat → Option Nat → Mp → Nat → Rs Int32
  | 0, _, _, _, _ => none
  | fu + 1, l4, l5, M, z => if ckc M l5 [9] = true then
  (cb (fX9_hasNext l5 M z) z fun v1 M2 z3 =>
if v1 = 0 then
  ((gi M2 l4 [7] 0).bind fun v4 =>
some (v4, M2, 0, 0))
else
  (if ckc M2 l5 [9] = true then
  (cb (fX9_next l5 M2 z3) z3 fun v5 M6 z7 =>
if cst M6 v5 [5] = true then
  (if ckc M6 l4 [7] = true then
  (cb (fX7_adds l4 v5 M6 z7) z7 fun _ M9 z10 =>
fX0_sum_L24 fu l4 l5 M9 z10)
else none)
else none)
else none))
else none

theorem gX0_sum_L24 {G : Cx} {F : Option Value × Mp × Nat} (hF : FX G cX0_sum 7 RX0 (Option.some Jvm.ClassFile.FieldType.int) "sum" 5 105) : ∀ (fu : Nat) (l4 : Option Nat) (l5 : Option Nat) (M : Mp) (z : Nat), SK G F 7 eI 24 [none, none, none, none, some (va_rf l4), some (va_rf l5), none] [] M z (fX0_sum_L24 fu l4 l5 M z) := by
  intro fu
  induction fu with
  | zero => intros; exact SK.fail
  | succ fu ih =>
    intro l4 l5 M z
    rw [fX0_sum_L24]
    refine s_aload (pc := 24) hF dX0_sum_24 rfl ?_
    refine s_callF (pc := 26) (As := []) (st := []) (stf := fun r9 => .int r9 :: []) (x := ⟨"java/util/Iterator", "hasNext", "()Z"⟩) hF (mX9_hasNext l5) cw_X9_hasNext rfl ⟨by decide, by decide⟩ q298 q304 n_q300 n_q299 n_q305 (List.forall_mem_cons.mpr ⟨⟨(RX9, TX9, 2), rfl, q302, n_q303, n_q301⟩, fun _ h9 => absurd h9 List.not_mem_nil⟩) rfl ⟨Nat.le_of_ble_eq_true rfl, Nat.le_of_ble_eq_true rfl⟩ ⟨trivial, Nat.le_of_ble_eq_true rfl⟩ dX0_sum_26 rfl (fun _ => rfl) (fun v1 M2 z3 => ?_)
    refine s_if_eq (pc := 31) hF 56 dX0_sum_31 rfl ?_ ?_
    · refine s_aload (pc := 56) hF dX0_sum_56 rfl ?_
      refine s_geti (pc := 58) hF (fl_X0_293 hF) dX0_sum_58 (fun v4 => ?_)
      exact s_iret (pc := 61) hF dX0_sum_61
    · refine s_aload (pc := 34) hF dX0_sum_34 rfl ?_
      refine s_callF (pc := 36) (As := []) (st := []) (stf := fun r9 => va_rf r9 :: []) (x := ⟨"java/util/Iterator", "next", "()Ljava/lang/Object;"⟩) hF (mX9_next l5) cw_X9_next rfl ⟨by decide, by decide⟩ q381 q334 n_q331 n_q330 n_q335 (List.forall_mem_cons.mpr ⟨⟨(RX9, TX9, 2), rfl, q332, n_q333, n_q301⟩, fun _ h9 => absurd h9 List.not_mem_nil⟩) rfl ⟨Nat.le_of_ble_eq_true rfl, Nat.le_of_ble_eq_true rfl⟩ ⟨trivial, Nat.le_of_ble_eq_true rfl⟩ dX0_sum_36 rfl (fun _ => rfl) (fun v5 M6 z7 => ?_)
      refine s_cast (pc := 41) hF q685 (List.forall_mem_cons.mpr ⟨⟨(RX5, TX5, 8), rfl, Or.inl rfl⟩, fun _ h9 => absurd h9 List.not_mem_nil⟩) dX0_sum_41 ?_
      refine s_astore (L9 := [none, none, none, none, some (va_rf l4), some (va_rf l5), some (va_rf v5)]) (pc := 44) hF dX0_sum_44 (Nat.le_of_ble_eq_true rfl) rfl ?_
      refine s_aload (pc := 46) hF dX0_sum_46 rfl ?_
      refine s_aload (pc := 48) hF dX0_sum_48 rfl ?_
      refine s_callV (pc := 50) (As := [va_rf v5]) (st := []) (stf := fun r9 => []) hF (mX7_adds l4 v5) cw_X7_adds q974 q975 (List.forall_mem_cons.mpr ⟨⟨(RX7, TX7, 4), rfl, q976⟩, fun _ h9 => absurd h9 List.not_mem_nil⟩) rfl ⟨Nat.le_of_ble_eq_true rfl, Nat.le_of_ble_eq_true rfl⟩ ⟨trivial, Nat.le_of_ble_eq_true rfl⟩ dX0_sum_50 rfl (fun _ => rfl) (fun v8 M9 z10 => ?_)
      refine s_goto (pc := 53) hF 24 dX0_sum_53 rfl ?_
      exact SK.sb (ih l4 l5 M9 z10) ⟨rfl, ⟨rfl, trivial⟩⟩
def fX0_sum (a0 : Option Nat) (a1 : Int32) (a2 : Int32) (a3 : Int32) (M : Mp) (z : Nat) : Rs Int32 := nwo 7 4 [.int 0, .int 0, .int 0, .null] M z fun M1 z2 =>
if (some z) = none then none else
  (cb (fX7_init (some z) a0 a2 a3 M1 z2) z2 fun _ M4 z5 =>
if ckc M4 a0 [0] = true then
  (cb (fX0_chain a0 a1 M4 z5) z5 fun v6 M7 z8 =>
if ckc M7 v6 [8] = true then
  (cb (fX8_iterator v6 M7 z8) z8 fun v9 M10 z11 =>
fX0_sum_L24 FU (some z) v9 M10 z11)
else none)
else none)
theorem gX0_sum {G : Cx} {F : Option Value × Mp × Nat} (hF : FX G cX0_sum 7 RX0 (Option.some Jvm.ClassFile.FieldType.int) "sum" 5 105) (a0 : Option Nat) (a1 : Int32) (a2 : Int32) (a3 : Int32) (M : Mp) (z : Nat) : SK G F 7 eI 0 [some (va_rf a0), some (.int a1), some (.int a2), some (.int a3), none, none, none] [] M z (fX0_sum a0 a1 a2 a3 M z) := by
  unfold fX0_sum
  refine s_nwo (pc := 0) hF dX0_sum_0 rfl in_X7 tyX7 tyX7_ok q911 q912 q76 (fun j hj => by rcases (show j = 0 ∨ j = 1 ∨ j = 2 ∨ j = 3 by omega) with rfl | rfl | rfl | rfl <;> rfl) (fun M1 z2 => ?_)
  refine s_dup (pc := 3) hF dX0_sum_3 (ct _) ?_
  refine s_aload_n (pc := 4) hF dX0_sum_4 rfl rfl ?_
  refine s_iload_n (pc := 5) hF dX0_sum_5 rfl rfl ?_
  refine s_iload_n (pc := 6) hF dX0_sum_6 rfl rfl ?_
  refine s_callJ (pc := 7) (As := [va_rf a0, .int a2, .int a3]) (st := [va_rf (some z)]) (stf := fun r9 => [va_rf (some z)]) hF (mX7_init (some z) a0 a2 a3) cw_X7_init q913 q914 rfl rfl ⟨Nat.le_of_ble_eq_true rfl, Nat.le_of_ble_eq_true rfl⟩ ⟨⟨ct _, trivial⟩, Nat.le_of_ble_eq_true rfl⟩ dX0_sum_7 rfl (fun _ => rfl) (fun v3 M4 z5 => ?_)
  refine s_astore (L9 := [some (va_rf a0), some (.int a1), some (.int a2), some (.int a3), some (va_rf (some z)), none, none]) (pc := 10) hF dX0_sum_10 (Nat.le_of_ble_eq_true rfl) rfl ?_
  refine s_aload_n (pc := 12) hF dX0_sum_12 rfl rfl ?_
  refine s_iload_n (pc := 13) hF dX0_sum_13 rfl rfl ?_
  refine s_callV (pc := 14) (As := [.int a1]) (st := []) (stf := fun r9 => va_rf r9 :: []) hF (mX0_chain a0 a1) cw_X0_chain q931 q933 (List.forall_mem_cons.mpr ⟨⟨(RX0, TX0, 6), rfl, qs21⟩, fun _ h9 => absurd h9 List.not_mem_nil⟩) rfl ⟨Nat.le_of_ble_eq_true rfl, Nat.le_of_ble_eq_true rfl⟩ ⟨trivial, Nat.le_of_ble_eq_true rfl⟩ dX0_sum_14 rfl (fun _ => rfl) (fun v6 M7 z8 => ?_)
  refine s_callF (pc := 17) (As := []) (st := []) (stf := fun r9 => va_rf r9 :: []) (x := ⟨"java/lang/Iterable", "iterator", "()Ljava/util/Iterator;"⟩) hF (mX8_iterator v6) cw_X8_iterator rfl ⟨by decide, by decide⟩ q950 q956 n_q952 n_q951 n_q957 (List.forall_mem_cons.mpr ⟨⟨(RX8, TX8, 2), rfl, q954, n_q955, n_q953⟩, fun _ h9 => absurd h9 List.not_mem_nil⟩) rfl ⟨Nat.le_of_ble_eq_true rfl, Nat.le_of_ble_eq_true rfl⟩ ⟨trivial, Nat.le_of_ble_eq_true rfl⟩ dX0_sum_17 rfl (fun _ => rfl) (fun v9 M10 z11 => ?_)
  refine s_astore (L9 := [some (va_rf a0), some (.int a1), some (.int a2), some (.int a3), some (va_rf (some z)), some (va_rf v9), none]) (pc := 22) hF dX0_sum_22 (Nat.le_of_ble_eq_true rfl) rfl ?_
  exact SK.sb (gX0_sum_L24 hF FU (some z) v9 M10 z11) ⟨rfl, ⟨rfl, trivial⟩⟩
theorem mX0_sum (a0 : Option Nat) (a1 : Int32) (a2 : Int32) (a3 : Int32) : MT yX0_sum cX0_sum 7 (Option.some Jvm.ClassFile.FieldType.int) 5 105 eI [va_rf a0, .int a1, .int a2, .int a3] (fX0_sum a0 a1 a2 a3) :=
  MT.of (L0 := [some (va_rf a0), some (.int a1), some (.int a2), some (.int a3), none, none, none]) (by decide) ⟨ct _, ⟨rfl, ⟨rfl, ⟨rfl, trivial⟩⟩⟩⟩ (Nat.le_of_ble_eq_true rfl) rfl (fun _ _ hF M z => gX0_sum hF a0 a1 a2 a3 M z)

theorem pl_X10_1 {G : Cx} {nL fr lc : Nat} {cc : ByteArray} {ret : Option FieldType} (hF : FX G cc nL RX10 ret "<init>" fr lc) (x9 : Option Nat) : ∀ c ∈ [10], PF G RX10 "<init>" 1 c 3 (va_rf x9) := by
  obtain ⟨⟨p, l, e, R, s, m, args, below, meth, c0⟩, A, D, dA, mi⟩ := G
  obtain ⟨hx, hb, hml, hown, hts, hr, hlk, hK, hnm, hfr, hlc⟩ := hF
  exact List.forall_mem_cons.mpr ⟨⟨RX10, TX10, 4, "StoryColumns$Reading", tyX10 3, rfl, in_X10, Nat.le_of_ble_eq_true rfl, Or.inl ⟨(hts _ q996), Or.inr ⟨rfl, rfl, rfl⟩⟩, fun _ h => h, tyX10_ok 3 (Nat.le_of_ble_eq_true rfl), by cases x9 <;> rfl, by cases x9 <;> rfl, ap_10 hts hK⟩, fun _ h9 => absurd h9 List.not_mem_nil⟩
theorem pl_X10_25 {G : Cx} {nL fr lc : Nat} {cc : ByteArray} {ret : Option FieldType} (hF : FX G cc nL RX10 ret "<init>" fr lc) (x9 : Option Nat) : ∀ c ∈ [10], PF G RX10 "<init>" 25 c 0 (va_rf x9) := by
  obtain ⟨⟨p, l, e, R, s, m, args, below, meth, c0⟩, A, D, dA, mi⟩ := G
  obtain ⟨hx, hb, hml, hown, hts, hr, hlk, hK, hnm, hfr, hlc⟩ := hF
  exact List.forall_mem_cons.mpr ⟨⟨RX10, TX10, 4, "StoryColumns$Reading", tyX10 0, rfl, in_X10, Nat.le_of_ble_eq_true rfl, Or.inl ⟨(hts _ q993), Or.inr ⟨rfl, rfl, rfl⟩⟩, fun _ h => h, tyX10_ok 0 (Nat.le_of_ble_eq_true rfl), by cases x9 <;> rfl, by cases x9 <;> rfl, ap_10 hts hK⟩, fun _ h9 => absurd h9 List.not_mem_nil⟩
def fX10_init (a0 : Option Nat) (a1 : Option Nat) (a2 : Int32) (M : Mp) (z : Nat) : Rs Unit := (pu M a0 [10] 3 (va_rf a1)).bind fun M1 =>
if a0 = none then none else
  (if ckc M1 a1 [0] = true then
  (cb (fX0_chain a1 a2 M1 z) z fun v2 M3 z4 =>
if ckc M3 v2 [8] = true then
  (cb (fX8_iterator v2 M3 z4) z4 fun v5 M6 z7 =>
(pu M6 a0 [10] 0 (va_rf v5)).bind fun M8 =>
some ((), M8, 0, 0))
else none)
else none)
theorem gX10_init {G : Cx} {F : Option Value × Mp × Nat} (hF : FX G cX10_init 3 RX10 (Option.none : Option Jvm.ClassFile.FieldType) "<init>" 4 86) (a0 : Option Nat) (a1 : Option Nat) (a2 : Int32) (M : Mp) (z : Nat) : SK G F 3 eV 0 [some (va_rf a0), some (va_rf a1), some (.int a2)] [] M z (fX10_init a0 a1 a2 M z) := by
  unfold fX10_init
  refine s_aload_n (pc := 0) hF dX10_init_0 rfl rfl ?_
  refine s_aload_n (pc := 1) hF dX10_init_1 rfl rfl ?_
  refine s_put (pc := 2) hF (pl_X10_1 hF _) dX10_init_2 (fun M1 => ?_)
  refine s_aload_n (pc := 5) hF dX10_init_5 rfl rfl ?_
  refine s_oinit (pc := 6) hF q989 ⟨Nat.le_of_ble_eq_true rfl, Nat.le_of_ble_eq_true rfl⟩ ⟨trivial, Nat.le_of_ble_eq_true rfl⟩ dX10_init_6 ?_
  refine s_aload_n (pc := 9) hF dX10_init_9 rfl rfl ?_
  refine s_aload_n (pc := 10) hF dX10_init_10 rfl rfl ?_
  refine s_iload_n (pc := 11) hF dX10_init_11 rfl rfl ?_
  refine s_callN (pc := 12) (As := [.int a2]) (st := [va_rf a0]) (stf := fun r9 => va_rf r9 :: [va_rf a0]) hF (mX0_chain a1 a2) cw_X0_chain n_q990 q933 (List.forall_mem_cons.mpr ⟨⟨(RX0, TX0, 6), rfl, qs21⟩, fun _ h9 => absurd h9 List.not_mem_nil⟩) rfl ⟨Nat.le_of_ble_eq_true rfl, Nat.le_of_ble_eq_true rfl⟩ ⟨⟨ct _, trivial⟩, Nat.le_of_ble_eq_true rfl⟩ dX10_init_12 rfl (fun _ => rfl) (fun v2 M3 z4 => ?_)
  refine s_callF (pc := 15) (As := []) (st := [va_rf a0]) (stf := fun r9 => va_rf r9 :: [va_rf a0]) (x := ⟨"java/lang/Iterable", "iterator", "()Ljava/util/Iterator;"⟩) hF (mX8_iterator v2) cw_X8_iterator rfl ⟨by decide, by decide⟩ q992 q956 n_q952 n_q951 n_q957 (List.forall_mem_cons.mpr ⟨⟨(RX8, TX8, 2), rfl, q954, n_q955, n_q953⟩, fun _ h9 => absurd h9 List.not_mem_nil⟩) rfl ⟨Nat.le_of_ble_eq_true rfl, Nat.le_of_ble_eq_true rfl⟩ ⟨⟨ct _, trivial⟩, Nat.le_of_ble_eq_true rfl⟩ dX10_init_15 rfl (fun _ => rfl) (fun v5 M6 z7 => ?_)
  refine s_put (pc := 20) hF (pl_X10_25 hF _) dX10_init_20 (fun M8 => ?_)
  exact s_vret (pc := 23) hF dX10_init_23
theorem mX10_init (a0 : Option Nat) (a1 : Option Nat) (a2 : Int32) : MT yX10_init cX10_init 3 (Option.none : Option Jvm.ClassFile.FieldType) 4 86 eV [va_rf a0, va_rf a1, .int a2] (fX10_init a0 a1 a2) :=
  MT.of (L0 := [some (va_rf a0), some (va_rf a1), some (.int a2)]) (by decide) ⟨ct _, ⟨ct _, ⟨rfl, trivial⟩⟩⟩ (Nat.le_of_ble_eq_true rfl) rfl (fun _ _ hF M z => gX10_init hF a0 a1 a2 M z)

theorem fl_X10_29 {G : Cx} {nL fr lc : Nat} {cc : ByteArray} {ret : Option FieldType} {nm : String} (hF : FX G cc nL RX10 ret nm fr lc) : ∀ c ∈ [10], GF G RX10 29 c 1 := by
  obtain ⟨⟨p, l, e, R, s, m, args, below, meth, c0⟩, A, D, dA, mi⟩ := G
  obtain ⟨hx, hb, hml, hown, hts, hr, hlk, hK, hnm, hfr, hlc⟩ := hF
  exact List.forall_mem_cons.mpr ⟨⟨RX10, TX10, 4, "StoryColumns$Reading", rfl, in_X10, Nat.le_of_ble_eq_true rfl, Or.inl (hts _ q994), fun _ h => h⟩, fun _ h9 => absurd h9 List.not_mem_nil⟩
theorem fl_X10_33 {G : Cx} {nL fr lc : Nat} {cc : ByteArray} {ret : Option FieldType} {nm : String} (hF : FX G cc nL RX10 ret nm fr lc) : ∀ c ∈ [5], GF G RX10 33 c 1 := by
  obtain ⟨⟨p, l, e, R, s, m, args, below, meth, c0⟩, A, D, dA, mi⟩ := G
  obtain ⟨hx, hb, hml, hown, hts, hr, hlk, hK, hnm, hfr, hlc⟩ := hF
  exact List.forall_mem_cons.mpr ⟨⟨RX5, TX5, 8, "StoryColumns$Story", rfl, in_X5, Nat.le_of_ble_eq_true rfl, Or.inr ⟨_, (va_Nw.use rfl (hK.2.1 _ n_q697))⟩, fun _ h => h⟩, fun _ h9 => absurd h9 List.not_mem_nil⟩
theorem fl_X10_45 {G : Cx} {nL fr lc : Nat} {cc : ByteArray} {ret : Option FieldType} {nm : String} (hF : FX G cc nL RX10 ret nm fr lc) : ∀ c ∈ [5], GF G RX10 45 c 0 := by
  obtain ⟨⟨p, l, e, R, s, m, args, below, meth, c0⟩, A, D, dA, mi⟩ := G
  obtain ⟨hx, hb, hml, hown, hts, hr, hlk, hK, hnm, hfr, hlc⟩ := hF
  exact List.forall_mem_cons.mpr ⟨⟨RX5, TX5, 8, "StoryColumns$Story", rfl, in_X5, Nat.le_of_ble_eq_true rfl, Or.inr ⟨_, (va_Nw.use rfl (hK.2.1 _ n_q694))⟩, fun _ h => h⟩, fun _ h9 => absurd h9 List.not_mem_nil⟩
def fX10_size_J38 (s0 : Int32) (s1 : Int32) (M : Mp) (z : Nat) : Rs Int32 := some ((s0 + s1), M, 0, 0)

theorem gX10_size_J38 {G : Cx} {F : Option Value × Mp × Nat} (hF : FX G cX10_size 1 RX10 (Option.some Jvm.ClassFile.FieldType.int) "size" 1 20) (s0 : Int32) (s1 : Int32) (M : Mp) (z : Nat) : SK G F 1 eI 38 [none] [.int s1, .int s0] M z (fX10_size_J38 s0 s1 M z) := by
  unfold fX10_size_J38
  refine s_iadd (pc := 38) hF dX10_size_38 ?_
  exact s_iret (pc := 39) hF dX10_size_39
def fX10_size (a0 : Option Nat) (M : Mp) (z : Nat) : Rs Int32 := (gr M a0 [10] 1).bind fun v1 =>
if v1 = none then
  (some ((0 : Int32), M, 0, 0))
else
  ((gr M a0 [10] 1).bind fun v2 =>
(gr M v2 [5] 1).bind fun v3 =>
if ckc M v3 [11] = true then
  (cb (fJ2_size v3 M z) z fun v4 M5 z6 =>
(gr M5 a0 [10] 1).bind fun v7 =>
(gr M5 v7 [5] 0).bind fun v8 =>
if v8 = none then
  (fX10_size_J38 v4 (0 : Int32) M5 z6)
else
  (fX10_size_J38 v4 (1 : Int32) M5 z6))
else none)
theorem gX10_size {G : Cx} {F : Option Value × Mp × Nat} (hF : FX G cX10_size 1 RX10 (Option.some Jvm.ClassFile.FieldType.int) "size" 1 20) (a0 : Option Nat) (M : Mp) (z : Nat) : SK G F 1 eI 0 [some (va_rf a0)] [] M z (fX10_size a0 M z) := by
  unfold fX10_size
  refine s_aload_n (pc := 0) hF dX10_size_0 rfl rfl ?_
  refine s_getr (pc := 1) hF (fl_X10_29 hF) dX10_size_1 (fun v1 => ?_)
  refine s_ifnonnull (pc := 4) hF 11 dX10_size_4 rfl ?_ ?_
  · refine s_aload_n (pc := 11) hF dX10_size_11 rfl rfl ?_
    refine s_getr (pc := 12) hF (fl_X10_29 hF) dX10_size_12 (fun v2 => ?_)
    refine s_getr (pc := 15) hF (fl_X10_33 hF) dX10_size_15 (fun v3 => ?_)
    refine s_callF (pc := 18) (As := []) (st := []) (stf := fun r9 => .int r9 :: []) (x := ⟨"java/util/List", "size", "()I"⟩) hF (mJ2_size v3) cw_J2_size rfl ⟨by decide, by decide⟩ q319 q158 n_q154 n_q153 n_q159 (List.forall_mem_cons.mpr ⟨⟨(RJ2, TJ2, 3), rfl, q156, n_q157, n_q155⟩, fun _ h9 => absurd h9 List.not_mem_nil⟩) rfl ⟨Nat.le_of_ble_eq_true rfl, Nat.le_of_ble_eq_true rfl⟩ ⟨trivial, Nat.le_of_ble_eq_true rfl⟩ dX10_size_18 rfl (fun _ => rfl) (fun v4 M5 z6 => ?_)
    refine s_aload_n (pc := 23) hF dX10_size_23 rfl rfl ?_
    refine s_getr (pc := 24) hF (fl_X10_29 hF) dX10_size_24 (fun v7 => ?_)
    refine s_getr (pc := 27) hF (fl_X10_45 hF) dX10_size_27 (fun v8 => ?_)
    refine s_ifnonnull (pc := 30) hF 37 dX10_size_30 rfl ?_ ?_
    · refine s_iconst (pc := 37) hF dX10_size_37 (1 : Int32) (by decide) ?_
      exact SK.sb (gX10_size_J38 hF v4 (1 : Int32) M5 z6) trivial
    · refine s_iconst (pc := 33) hF dX10_size_33 (0 : Int32) (by decide) ?_
      refine s_goto (pc := 34) hF 38 dX10_size_34 rfl ?_
      exact SK.sb (gX10_size_J38 hF v4 (0 : Int32) M5 z6) trivial
  · refine s_iconst (pc := 7) hF dX10_size_7 (0 : Int32) (by decide) ?_
    refine s_goto (pc := 8) hF 39 dX10_size_8 rfl ?_
    exact s_iret (pc := 39) hF dX10_size_39
theorem mX10_size (a0 : Option Nat) : MT yX10_size cX10_size 1 (Option.some Jvm.ClassFile.FieldType.int) 1 20 eI [va_rf a0] (fX10_size a0) :=
  MT.of (L0 := [some (va_rf a0)]) (by decide) ⟨ct _, trivial⟩ (Nat.le_of_ble_eq_true rfl) rfl (fun _ _ hF M z => gX10_size hF a0 M z)

theorem fl_X10_49 {G : Cx} {nL fr lc : Nat} {cc : ByteArray} {ret : Option FieldType} {nm : String} (hF : FX G cc nL RX10 ret nm fr lc) : ∀ c ∈ [10], GF G RX10 49 c 2 := by
  obtain ⟨⟨p, l, e, R, s, m, args, below, meth, c0⟩, A, D, dA, mi⟩ := G
  obtain ⟨hx, hb, hml, hown, hts, hr, hlk, hK, hnm, hfr, hlc⟩ := hF
  exact List.forall_mem_cons.mpr ⟨⟨RX10, TX10, 4, "StoryColumns$Reading", rfl, in_X10, Nat.le_of_ble_eq_true rfl, Or.inl (hts _ q995), fun _ h => h⟩, fun _ h9 => absurd h9 List.not_mem_nil⟩
theorem cw_X10_size : CWm yX10_size cX10_size 1 (Option.some Jvm.ClassFile.FieldType.int) 0 := ⟨q317, q79, by decide +kernel, by decide +kernel, by decide +kernel⟩
theorem fl_X10_25 {G : Cx} {nL fr lc : Nat} {cc : ByteArray} {ret : Option FieldType} {nm : String} (hF : FX G cc nL RX10 ret nm fr lc) : ∀ c ∈ [10], GF G RX10 25 c 0 := by
  obtain ⟨⟨p, l, e, R, s, m, args, below, meth, c0⟩, A, D, dA, mi⟩ := G
  obtain ⟨hx, hb, hml, hown, hts, hr, hlk, hK, hnm, hfr, hlc⟩ := hF
  exact List.forall_mem_cons.mpr ⟨⟨RX10, TX10, 4, "StoryColumns$Reading", rfl, in_X10, Nat.le_of_ble_eq_true rfl, Or.inl (hts _ q993), fun _ h => h⟩, fun _ h9 => absurd h9 List.not_mem_nil⟩
theorem pl_X10_29 {G : Cx} {nL fr lc : Nat} {cc : ByteArray} {ret : Option FieldType} {nm : String} (hF : FX G cc nL RX10 ret nm fr lc) (x9 : Option Nat) : ∀ c ∈ [10], PF G RX10 nm 29 c 1 (va_rf x9) := by
  obtain ⟨⟨p, l, e, R, s, m, args, below, meth, c0⟩, A, D, dA, mi⟩ := G
  obtain ⟨hx, hb, hml, hown, hts, hr, hlk, hK, hnm, hfr, hlc⟩ := hF
  exact List.forall_mem_cons.mpr ⟨⟨RX10, TX10, 4, "StoryColumns$Reading", tyX10 1, rfl, in_X10, Nat.le_of_ble_eq_true rfl, Or.inl ⟨(hts _ q994), Or.inl rfl⟩, fun _ h => h, tyX10_ok 1 (Nat.le_of_ble_eq_true rfl), by cases x9 <;> rfl, by cases x9 <;> rfl, ap_10 hts hK⟩, fun _ h9 => absurd h9 List.not_mem_nil⟩
theorem pl_X10_49 {G : Cx} {nL fr lc : Nat} {cc : ByteArray} {ret : Option FieldType} {nm : String} (hF : FX G cc nL RX10 ret nm fr lc) (x9 : Int32) : ∀ c ∈ [10], PF G RX10 nm 49 c 2 (.int x9) := by
  obtain ⟨⟨p, l, e, R, s, m, args, below, meth, c0⟩, A, D, dA, mi⟩ := G
  obtain ⟨hx, hb, hml, hown, hts, hr, hlk, hK, hnm, hfr, hlc⟩ := hF
  exact List.forall_mem_cons.mpr ⟨⟨RX10, TX10, 4, "StoryColumns$Reading", tyX10 2, rfl, in_X10, Nat.le_of_ble_eq_true rfl, Or.inl ⟨(hts _ q995), Or.inl rfl⟩, fun _ h => h, tyX10_ok 2 (Nat.le_of_ble_eq_true rfl), rfl, rfl, ap_10 hts hK⟩, fun _ h9 => absurd h9 List.not_mem_nil⟩
def fX10_hasNext_J47 (l0 : Option Nat) (M : Mp) (z : Nat) : Rs Int32 := (gi M l0 [10] 2).bind fun v1 =>
if ckc M l0 [10] = true then
  (cb (fX10_size l0 M z) z fun v2 M3 z4 =>
if v1 < v2 then
  (some ((1 : Int32), M3, 0, 0))
else
  (some ((0 : Int32), M3, 0, 0)))
else none

theorem gX10_hasNext_J47 {G : Cx} {F : Option Value × Mp × Nat} (hF : FX G cX10_hasNext 1 RX10 (Option.some Jvm.ClassFile.FieldType.boolean) "hasNext" 2 41) (l0 : Option Nat) (M : Mp) (z : Nat) : SK G F 1 eI 47 [some (va_rf l0)] [] M z (fX10_hasNext_J47 l0 M z) := by
  unfold fX10_hasNext_J47
  refine s_aload_n (pc := 47) hF dX10_hasNext_47 rfl rfl ?_
  refine s_geti (pc := 48) hF (fl_X10_49 hF) dX10_hasNext_48 (fun v1 => ?_)
  refine s_aload_n (pc := 51) hF dX10_hasNext_51 rfl rfl ?_
  refine s_callV (pc := 52) (As := []) (st := [.int v1]) (stf := fun r9 => .int r9 :: [.int v1]) hF (mX10_size l0) cw_X10_size q313 q315 (List.forall_mem_cons.mpr ⟨⟨(RX10, TX10, 4), rfl, qs0⟩, fun _ h9 => absurd h9 List.not_mem_nil⟩) rfl ⟨Nat.le_of_ble_eq_true rfl, Nat.le_of_ble_eq_true rfl⟩ ⟨⟨rfl, trivial⟩, Nat.le_of_ble_eq_true rfl⟩ dX10_hasNext_52 rfl (fun _ => rfl) (fun v2 M3 z4 => ?_)
  refine s_icmp_ge (pc := 55) hF 62 dX10_hasNext_55 rfl ?_ ?_
  · refine s_iconst (pc := 62) hF dX10_hasNext_62 (0 : Int32) (by decide) ?_
    exact s_zretL (pc := 63) hF dX10_hasNext_63 (by decide)
  · refine s_iconst (pc := 58) hF dX10_hasNext_58 (1 : Int32) (by decide) ?_
    refine s_goto (pc := 59) hF 63 dX10_hasNext_59 rfl ?_
    exact s_zretL (pc := 63) hF dX10_hasNext_63 (by decide)

def fX10_hasNext_L0 : Nat → Option Nat → Mp → Nat → Rs Int32
  | 0, _, _, _ => none
  | fu + 1, l0, M, z => (gi M l0 [10] 2).bind fun v1 =>
if ckc M l0 [10] = true then
  (cb (fX10_size l0 M z) z fun v2 M3 z4 =>
if v1 = v2 then
  ((gr M3 l0 [10] 0).bind fun v5 =>
if ckc M3 v5 [9] = true then
  (cb (fX9_hasNext v5 M3 z4) z4 fun v6 M7 z8 =>
if v6 = 0 then
  (fX10_hasNext_J47 l0 M7 z8)
else
  ((gr M7 l0 [10] 0).bind fun v9 =>
if ckc M7 v9 [9] = true then
  (cb (fX9_next v9 M7 z8) z8 fun v10 M11 z12 =>
if cst M11 v10 [5] = true then
  ((pu M11 l0 [10] 1 (va_rf v10)).bind fun M13 =>
(pu M13 l0 [10] 2 (.int (0 : Int32))).bind fun M14 =>
fX10_hasNext_L0 fu l0 M14 z12)
else none)
else none))
else none)
else
  (fX10_hasNext_J47 l0 M3 z4))
else none

theorem gX10_hasNext_L0 {G : Cx} {F : Option Value × Mp × Nat} (hF : FX G cX10_hasNext 1 RX10 (Option.some Jvm.ClassFile.FieldType.boolean) "hasNext" 2 41) : ∀ (fu : Nat) (l0 : Option Nat) (M : Mp) (z : Nat), SK G F 1 eI 0 [some (va_rf l0)] [] M z (fX10_hasNext_L0 fu l0 M z) := by
  intro fu
  induction fu with
  | zero => intros; exact SK.fail
  | succ fu ih =>
    intro l0 M z
    rw [fX10_hasNext_L0]
    refine s_aload_n (pc := 0) hF dX10_hasNext_0 rfl rfl ?_
    refine s_geti (pc := 1) hF (fl_X10_49 hF) dX10_hasNext_1 (fun v1 => ?_)
    refine s_aload_n (pc := 4) hF dX10_hasNext_4 rfl rfl ?_
    refine s_callV (pc := 5) (As := []) (st := [.int v1]) (stf := fun r9 => .int r9 :: [.int v1]) hF (mX10_size l0) cw_X10_size q313 q315 (List.forall_mem_cons.mpr ⟨⟨(RX10, TX10, 4), rfl, qs0⟩, fun _ h9 => absurd h9 List.not_mem_nil⟩) rfl ⟨Nat.le_of_ble_eq_true rfl, Nat.le_of_ble_eq_true rfl⟩ ⟨⟨rfl, trivial⟩, Nat.le_of_ble_eq_true rfl⟩ dX10_hasNext_5 rfl (fun _ => rfl) (fun v2 M3 z4 => ?_)
    refine s_icmp_ne (pc := 8) hF 47 dX10_hasNext_8 rfl ?_ ?_
    · exact SK.sb (gX10_hasNext_J47 hF l0 M3 z4) ⟨rfl, trivial⟩
    · refine s_aload_n (pc := 11) hF dX10_hasNext_11 rfl rfl ?_
      refine s_getr (pc := 12) hF (fl_X10_25 hF) dX10_hasNext_12 (fun v5 => ?_)
      refine s_callF (pc := 15) (As := []) (st := []) (stf := fun r9 => .int r9 :: []) (x := ⟨"java/util/Iterator", "hasNext", "()Z"⟩) hF (mX9_hasNext v5) cw_X9_hasNext rfl ⟨by decide, by decide⟩ q321 q304 n_q300 n_q299 n_q305 (List.forall_mem_cons.mpr ⟨⟨(RX9, TX9, 2), rfl, q302, n_q303, n_q301⟩, fun _ h9 => absurd h9 List.not_mem_nil⟩) rfl ⟨Nat.le_of_ble_eq_true rfl, Nat.le_of_ble_eq_true rfl⟩ ⟨trivial, Nat.le_of_ble_eq_true rfl⟩ dX10_hasNext_15 rfl (fun _ => rfl) (fun v6 M7 z8 => ?_)
      refine s_if_eq (pc := 20) hF 47 dX10_hasNext_20 rfl ?_ ?_
      · exact SK.sb (gX10_hasNext_J47 hF l0 M7 z8) ⟨rfl, trivial⟩
      · refine s_aload_n (pc := 23) hF dX10_hasNext_23 rfl rfl ?_
        refine s_aload_n (pc := 24) hF dX10_hasNext_24 rfl rfl ?_
        refine s_getr (pc := 25) hF (fl_X10_25 hF) dX10_hasNext_25 (fun v9 => ?_)
        refine s_callF (pc := 28) (As := []) (st := [va_rf l0]) (stf := fun r9 => va_rf r9 :: [va_rf l0]) (x := ⟨"java/util/Iterator", "next", "()Ljava/lang/Object;"⟩) hF (mX9_next v9) cw_X9_next rfl ⟨by decide, by decide⟩ q329 q334 n_q331 n_q330 n_q335 (List.forall_mem_cons.mpr ⟨⟨(RX9, TX9, 2), rfl, q332, n_q333, n_q301⟩, fun _ h9 => absurd h9 List.not_mem_nil⟩) rfl ⟨Nat.le_of_ble_eq_true rfl, Nat.le_of_ble_eq_true rfl⟩ ⟨⟨ct _, trivial⟩, Nat.le_of_ble_eq_true rfl⟩ dX10_hasNext_28 rfl (fun _ => rfl) (fun v10 M11 z12 => ?_)
        refine s_cast (pc := 33) hF q379 (List.forall_mem_cons.mpr ⟨⟨(RX5, TX5, 8), rfl, Or.inl rfl⟩, fun _ h9 => absurd h9 List.not_mem_nil⟩) dX10_hasNext_33 ?_
        refine s_put (pc := 36) hF (pl_X10_29 hF _) dX10_hasNext_36 (fun M13 => ?_)
        refine s_aload_n (pc := 39) hF dX10_hasNext_39 rfl rfl ?_
        refine s_iconst (pc := 40) hF dX10_hasNext_40 (0 : Int32) (by decide) ?_
        refine s_put (pc := 41) hF (pl_X10_49 hF _) dX10_hasNext_41 (fun M14 => ?_)
        refine s_goto (pc := 44) hF 0 dX10_hasNext_44 rfl ?_
        exact SK.sb (ih l0 M14 z12) ⟨rfl, trivial⟩
def fX10_hasNext (a0 : Option Nat) (M : Mp) (z : Nat) : Rs Int32 := fX10_hasNext_L0 FU a0 M z
theorem gX10_hasNext {G : Cx} {F : Option Value × Mp × Nat} (hF : FX G cX10_hasNext 1 RX10 (Option.some Jvm.ClassFile.FieldType.boolean) "hasNext" 2 41) (a0 : Option Nat) (M : Mp) (z : Nat) : SK G F 1 eI 0 [some (va_rf a0)] [] M z (fX10_hasNext a0 M z) := by
  unfold fX10_hasNext
  exact SK.sb (gX10_hasNext_L0 hF FU a0 M z) ⟨rfl, trivial⟩
theorem mX10_hasNext (a0 : Option Nat) : MT yX10_hasNext cX10_hasNext 1 (Option.some Jvm.ClassFile.FieldType.boolean) 2 41 eI [va_rf a0] (fX10_hasNext a0) :=
  MT.of (L0 := [some (va_rf a0)]) (by decide) ⟨ct _, trivial⟩ (Nat.le_of_ble_eq_true rfl) rfl (fun _ _ hF M z => gX10_hasNext hF a0 M z)

def fX10_next_2 (a0 : Option Nat) (M : Mp) (z : Nat) : Rs (Option Nat) := (gi M a0 [10] 2).bind fun v1 =>
(gi M a0 [10] 2).bind fun v2 =>
(pu M a0 [10] 2 (.int (v2 + (1 : Int32)))).bind fun M3 =>
(gr M3 a0 [10] 1).bind fun v4 =>
(gr M3 v4 [5] 0).bind fun v5 =>
if v5 = none then
  ((gr M3 a0 [10] 1).bind fun v13 =>
(gr M3 v13 [5] 1).bind fun v14 =>
if ckc M3 v14 [11] = true then
  (cb (fJ2_get v14 v1 M3 z) z fun v15 M16 z17 =>
if cst M16 v15 [2, 3] = true then
  (some (v15, M16, 0, 0))
else none)
else none)
else
  (if v1 = 0 then
  ((gr M3 a0 [10] 1).bind fun v11 =>
(gr M3 v11 [5] 0).bind fun v12 =>
some (v12, M3, 0, 0))
else
  ((gr M3 a0 [10] 1).bind fun v6 =>
(gr M3 v6 [5] 1).bind fun v7 =>
if ckc M3 v7 [11] = true then
  (cb (fJ2_get v7 (v1 - (1 : Int32)) M3 z) z fun v8 M9 z10 =>
if cst M9 v8 [2, 3] = true then
  (some (v8, M9, 0, 0))
else none)
else none))
theorem gX10_next_2 {G : Cx} {F : Option Value × Mp × Nat} (hF : FX G cX10_next_2 2 RX10 (Option.some (Jvm.ClassFile.FieldType.object "StoryColumns$Block")) "next" 3 64) (a0 : Option Nat) (M : Mp) (z : Nat) : SK G F 2 eR 0 [some (va_rf a0), none] [] M z (fX10_next_2 a0 M z) := by
  unfold fX10_next_2
  refine s_aload_n (pc := 0) hF dX10_next_2_0 rfl rfl ?_
  refine s_geti (pc := 1) hF (fl_X10_49 hF) dX10_next_2_1 (fun v1 => ?_)
  refine s_istore_n (L9 := [some (va_rf a0), some (.int v1)]) (pc := 4) hF dX10_next_2_4 rfl (Nat.le_of_ble_eq_true rfl) rfl ?_
  refine s_aload_n (pc := 5) hF dX10_next_2_5 rfl rfl ?_
  refine s_dup (pc := 6) hF dX10_next_2_6 (ct _) ?_
  refine s_geti (pc := 7) hF (fl_X10_49 hF) dX10_next_2_7 (fun v2 => ?_)
  refine s_iconst (pc := 10) hF dX10_next_2_10 (1 : Int32) (by decide) ?_
  refine s_iadd (pc := 11) hF dX10_next_2_11 ?_
  refine s_put (pc := 12) hF (pl_X10_49 hF _) dX10_next_2_12 (fun M3 => ?_)
  refine s_aload_n (pc := 15) hF dX10_next_2_15 rfl rfl ?_
  refine s_getr (pc := 16) hF (fl_X10_29 hF) dX10_next_2_16 (fun v4 => ?_)
  refine s_getr (pc := 19) hF (fl_X10_45 hF) dX10_next_2_19 (fun v5 => ?_)
  refine s_ifnonnull (pc := 22) hF 44 dX10_next_2_22 rfl ?_ ?_
  · refine s_iload_n (pc := 44) hF dX10_next_2_44 rfl rfl ?_
    refine s_if_ne (pc := 45) hF 58 dX10_next_2_45 rfl ?_ ?_
    · refine s_aload_n (pc := 58) hF dX10_next_2_58 rfl rfl ?_
      refine s_getr (pc := 59) hF (fl_X10_29 hF) dX10_next_2_59 (fun v6 => ?_)
      refine s_getr (pc := 62) hF (fl_X10_33 hF) dX10_next_2_62 (fun v7 => ?_)
      refine s_iload_n (pc := 65) hF dX10_next_2_65 rfl rfl ?_
      refine s_iconst (pc := 66) hF dX10_next_2_66 (1 : Int32) (by decide) ?_
      refine s_isub (pc := 67) hF dX10_next_2_67 ?_
      refine s_callF (pc := 68) (As := [.int (v1 - (1 : Int32))]) (st := []) (stf := fun r9 => va_rf r9 :: []) (x := ⟨"java/util/List", "get", "(I)Ljava/lang/Object;"⟩) hF (mJ2_get v7 (v1 - (1 : Int32))) cw_J2_get rfl ⟨by decide, by decide⟩ q351 q356 n_q353 n_q352 n_q357 (List.forall_mem_cons.mpr ⟨⟨(RJ2, TJ2, 3), rfl, q354, n_q355, n_q155⟩, fun _ h9 => absurd h9 List.not_mem_nil⟩) rfl ⟨Nat.le_of_ble_eq_true rfl, Nat.le_of_ble_eq_true rfl⟩ ⟨trivial, Nat.le_of_ble_eq_true rfl⟩ dX10_next_2_68 rfl (fun _ => rfl) (fun v8 M9 z10 => ?_)
      refine s_cast (pc := 73) hF q369 (List.forall_mem_cons.mpr ⟨⟨(RX2, TX2, 13), rfl, Or.inl rfl⟩, List.forall_mem_cons.mpr ⟨⟨(RX3, TX3, 14), rfl, Or.inr n_q1359⟩, fun _ h9 => absurd h9 List.not_mem_nil⟩⟩) dX10_next_2_73 ?_
      exact s_aret (pc := 76) hF rfl (Or.inl ⟨_, rfl⟩) dX10_next_2_76
    · refine s_aload_n (pc := 48) hF dX10_next_2_48 rfl rfl ?_
      refine s_getr (pc := 49) hF (fl_X10_29 hF) dX10_next_2_49 (fun v11 => ?_)
      refine s_getr (pc := 52) hF (fl_X10_45 hF) dX10_next_2_52 (fun v12 => ?_)
      refine s_goto (pc := 55) hF 76 dX10_next_2_55 rfl ?_
      exact s_aret (pc := 76) hF rfl (Or.inl ⟨_, rfl⟩) dX10_next_2_76
  · refine s_aload_n (pc := 25) hF dX10_next_2_25 rfl rfl ?_
    refine s_getr (pc := 26) hF (fl_X10_29 hF) dX10_next_2_26 (fun v13 => ?_)
    refine s_getr (pc := 29) hF (fl_X10_33 hF) dX10_next_2_29 (fun v14 => ?_)
    refine s_iload_n (pc := 32) hF dX10_next_2_32 rfl rfl ?_
    refine s_callF (pc := 33) (As := [.int v1]) (st := []) (stf := fun r9 => va_rf r9 :: []) (x := ⟨"java/util/List", "get", "(I)Ljava/lang/Object;"⟩) hF (mJ2_get v14 v1) cw_J2_get rfl ⟨by decide, by decide⟩ q351 q356 n_q353 n_q352 n_q357 (List.forall_mem_cons.mpr ⟨⟨(RJ2, TJ2, 3), rfl, q354, n_q355, n_q155⟩, fun _ h9 => absurd h9 List.not_mem_nil⟩) rfl ⟨Nat.le_of_ble_eq_true rfl, Nat.le_of_ble_eq_true rfl⟩ ⟨trivial, Nat.le_of_ble_eq_true rfl⟩ dX10_next_2_33 rfl (fun _ => rfl) (fun v15 M16 z17 => ?_)
    refine s_cast (pc := 38) hF q369 (List.forall_mem_cons.mpr ⟨⟨(RX2, TX2, 13), rfl, Or.inl rfl⟩, List.forall_mem_cons.mpr ⟨⟨(RX3, TX3, 14), rfl, Or.inr n_q1359⟩, fun _ h9 => absurd h9 List.not_mem_nil⟩⟩) dX10_next_2_38 ?_
    refine s_goto (pc := 41) hF 76 dX10_next_2_41 rfl ?_
    exact s_aret (pc := 76) hF rfl (Or.inl ⟨_, rfl⟩) dX10_next_2_76
theorem mX10_next_2 (a0 : Option Nat) : MT yX10_next_2 cX10_next_2 2 (Option.some (Jvm.ClassFile.FieldType.object "StoryColumns$Block")) 3 64 eR [va_rf a0] (fX10_next_2 a0) :=
  MT.of (L0 := [some (va_rf a0), none]) (by decide) ⟨ct _, trivial⟩ (Nat.le_of_ble_eq_true rfl) rfl (fun _ _ hF M z => gX10_next_2 hF a0 M z)

theorem cw_X10_next_2 : CWm yX10_next_2 cX10_next_2 2 (Option.some (Jvm.ClassFile.FieldType.object "StoryColumns$Block")) 0 := ⟨q349, q79, by decide +kernel, by decide +kernel, by decide +kernel⟩
theorem cw_X10_hasNext : CWm yX10_hasNext cX10_hasNext 1 (Option.some Jvm.ClassFile.FieldType.boolean) 0 := ⟨q312, q79, by decide +kernel, by decide +kernel, by decide +kernel⟩
theorem cw_X10_init : CWm yX10_init cX10_init 3 (Option.none : Option Jvm.ClassFile.FieldType) 2 := ⟨q988, q79, by decide +kernel, by decide +kernel, by decide +kernel⟩
def fX0_pagesOf_L12 : Nat → Int32 → Option Nat → Mp → Nat → Rs Int32
  | 0, _, _, _, _ => none
  | fu + 1, l2, l3, M, z => if ckc M l3 [10] = true then
  (cb (fX10_hasNext l3 M z) z fun v1 M2 z3 =>
if v1 = 0 then
  (some (l2, M2, 0, 0))
else
  (if ckc M2 l3 [10] = true then
  (cb (fX10_next_2 l3 M2 z3) z3 fun v4 M5 z6 =>
(gi M5 v4 [2, 3] 1).bind fun v7 =>
fX0_pagesOf_L12 fu (l2 ||| ((1 : Int32) <<< (v7 &&& 31))) l3 M5 z6)
else none))
else none

theorem gX0_pagesOf_L12 {G : Cx} {F : Option Value × Mp × Nat} (hF : FX G cX0_pagesOf 4 RX0 (Option.some Jvm.ClassFile.FieldType.int) "pagesOf" 5 108) : ∀ (fu : Nat) (l2 : Int32) (l3 : Option Nat) (M : Mp) (z : Nat), SK G F 4 eI 12 [none, none, some (.int l2), some (va_rf l3)] [] M z (fX0_pagesOf_L12 fu l2 l3 M z) := by
  intro fu
  induction fu with
  | zero => intros; exact SK.fail
  | succ fu ih =>
    intro l2 l3 M z
    rw [fX0_pagesOf_L12]
    refine s_aload_n (pc := 12) hF dX0_pagesOf_12 rfl rfl ?_
    refine s_callV (pc := 13) (As := []) (st := []) (stf := fun r9 => .int r9 :: []) hF (mX10_hasNext l3) cw_X10_hasNext q1006 q310 (List.forall_mem_cons.mpr ⟨⟨(RX10, TX10, 4), rfl, q1358⟩, fun _ h9 => absurd h9 List.not_mem_nil⟩) rfl ⟨Nat.le_of_ble_eq_true rfl, Nat.le_of_ble_eq_true rfl⟩ ⟨trivial, Nat.le_of_ble_eq_true rfl⟩ dX0_pagesOf_13 rfl (fun _ => rfl) (fun v1 M2 z3 => ?_)
    refine s_if_eq (pc := 16) hF 34 dX0_pagesOf_16 rfl ?_ ?_
    · refine s_iload_n (pc := 34) hF dX0_pagesOf_34 rfl rfl ?_
      exact s_iret (pc := 35) hF dX0_pagesOf_35
    · refine s_iload_n (pc := 19) hF dX0_pagesOf_19 rfl rfl ?_
      refine s_iconst (pc := 20) hF dX0_pagesOf_20 (1 : Int32) (by decide) ?_
      refine s_aload_n (pc := 21) hF dX0_pagesOf_21 rfl rfl ?_
      refine s_callV (pc := 22) (As := []) (st := [.int (1 : Int32), .int l2]) (stf := fun r9 => va_rf r9 :: [.int (1 : Int32), .int l2]) hF (mX10_next_2 l3) cw_X10_next_2 q1007 q347 (List.forall_mem_cons.mpr ⟨⟨(RX10, TX10, 4), rfl, q348⟩, fun _ h9 => absurd h9 List.not_mem_nil⟩) rfl ⟨Nat.le_of_ble_eq_true rfl, Nat.le_of_ble_eq_true rfl⟩ ⟨⟨rfl, ⟨rfl, trivial⟩⟩, Nat.le_of_ble_eq_true rfl⟩ dX0_pagesOf_22 rfl (fun _ => rfl) (fun v4 M5 z6 => ?_)
      refine s_geti (pc := 25) hF (fl_X0_131 hF) dX0_pagesOf_25 (fun v7 => ?_)
      refine s_ishl (pc := 28) hF dX0_pagesOf_28 ?_
      refine s_ior (pc := 29) hF dX0_pagesOf_29 ?_
      refine s_istore_n (L9 := [none, none, some (.int (l2 ||| ((1 : Int32) <<< (v7 &&& 31)))), some (va_rf l3)]) (pc := 30) hF dX0_pagesOf_30 rfl (Nat.le_of_ble_eq_true rfl) rfl ?_
      refine s_goto (pc := 31) hF 12 dX0_pagesOf_31 rfl ?_
      exact SK.sb (ih (l2 ||| ((1 : Int32) <<< (v7 &&& 31))) l3 M5 z6) ⟨rfl, ⟨rfl, trivial⟩⟩
def fX0_pagesOf (a0 : Option Nat) (a1 : Int32) (M : Mp) (z : Nat) : Rs Int32 := nwo 10 4 [.null, .null, .int 0, .null] M z fun M1 z2 =>
if (some z) = none then none else
  (cb (fX10_init (some z) a0 a1 M1 z2) z2 fun _ M4 z5 =>
fX0_pagesOf_L12 FU (0 : Int32) (some z) M4 z5)
theorem gX0_pagesOf {G : Cx} {F : Option Value × Mp × Nat} (hF : FX G cX0_pagesOf 4 RX0 (Option.some Jvm.ClassFile.FieldType.int) "pagesOf" 5 108) (a0 : Option Nat) (a1 : Int32) (M : Mp) (z : Nat) : SK G F 4 eI 0 [some (va_rf a0), some (.int a1), none, none] [] M z (fX0_pagesOf a0 a1 M z) := by
  unfold fX0_pagesOf
  refine s_iconst (pc := 0) hF dX0_pagesOf_0 (0 : Int32) (by decide) ?_
  refine s_istore_n (L9 := [some (va_rf a0), some (.int a1), some (.int (0 : Int32)), none]) (pc := 1) hF dX0_pagesOf_1 rfl (Nat.le_of_ble_eq_true rfl) rfl ?_
  refine s_nwo (pc := 2) hF dX0_pagesOf_2 rfl in_X10 tyX10 tyX10_ok q985 q316 q79 (fun j hj => by rcases (show j = 0 ∨ j = 1 ∨ j = 2 ∨ j = 3 by omega) with rfl | rfl | rfl | rfl <;> rfl) (fun M1 z2 => ?_)
  refine s_dup (pc := 5) hF dX0_pagesOf_5 (ct _) ?_
  refine s_aload_n (pc := 6) hF dX0_pagesOf_6 rfl rfl ?_
  refine s_iload_n (pc := 7) hF dX0_pagesOf_7 rfl rfl ?_
  refine s_callJ (pc := 8) (As := [va_rf a0, .int a1]) (st := [va_rf (some z)]) (stf := fun r9 => [va_rf (some z)]) hF (mX10_init (some z) a0 a1) cw_X10_init q986 q987 rfl rfl ⟨Nat.le_of_ble_eq_true rfl, Nat.le_of_ble_eq_true rfl⟩ ⟨⟨ct _, trivial⟩, Nat.le_of_ble_eq_true rfl⟩ dX0_pagesOf_8 rfl (fun _ => rfl) (fun v3 M4 z5 => ?_)
  refine s_astore_n (L9 := [some (va_rf a0), some (.int a1), some (.int (0 : Int32)), some (va_rf (some z))]) (pc := 11) hF dX0_pagesOf_11 rfl (Nat.le_of_ble_eq_true rfl) rfl ?_
  exact SK.sb (gX0_pagesOf_L12 hF FU (0 : Int32) (some z) M4 z5) ⟨rfl, ⟨rfl, trivial⟩⟩
theorem mX0_pagesOf (a0 : Option Nat) (a1 : Int32) : MT yX0_pagesOf cX0_pagesOf 4 (Option.some Jvm.ClassFile.FieldType.int) 5 108 eI [va_rf a0, .int a1] (fX0_pagesOf a0 a1) :=
  MT.of (L0 := [some (va_rf a0), some (.int a1), none, none]) (by decide) ⟨ct _, ⟨rfl, trivial⟩⟩ (Nat.le_of_ble_eq_true rfl) rfl (fun _ _ hF M z => gX0_pagesOf hF a0 a1 M z)

def fX0_isBrokenOff_L13 : Nat → Option Nat → Option Nat → Mp → Nat → Rs Int32
  | 0, _, _, _, _ => none
  | fu + 1, l2, l3, M, z => if ckc M l3 [9] = true then
  (cb (fX9_hasNext l3 M z) z fun v1 M2 z3 =>
if v1 = 0 then
  (if l2 = none then
  (some ((0 : Int32), M2, 0, 0))
else
  (if ckc M2 l2 [5] = true then
  (cb (fX5_isBroken l2 M2 z3) z3 fun v4 M5 z6 =>
if v4 = 0 then
  (some ((0 : Int32), M5, 0, 0))
else
  (some ((1 : Int32), M5, 0, 0)))
else none))
else
  (if ckc M2 l3 [9] = true then
  (cb (fX9_next l3 M2 z3) z3 fun v7 M8 z9 =>
if cst M8 v7 [5] = true then
  (fX0_isBrokenOff_L13 fu v7 l3 M8 z9)
else none)
else none))
else none

theorem gX0_isBrokenOff_L13 {G : Cx} {F : Option Value × Mp × Nat} (hF : FX G cX0_isBrokenOff 5 RX0 (Option.some Jvm.ClassFile.FieldType.boolean) "isBrokenOff" 5 104) : ∀ (fu : Nat) (l2 : Option Nat) (l3 : Option Nat) (M : Mp) (z : Nat), SK G F 5 eI 13 [none, none, some (va_rf l2), some (va_rf l3), none] [] M z (fX0_isBrokenOff_L13 fu l2 l3 M z) := by
  intro fu
  induction fu with
  | zero => intros; exact SK.fail
  | succ fu ih =>
    intro l2 l3 M z
    rw [fX0_isBrokenOff_L13]
    refine s_aload_n (pc := 13) hF dX0_isBrokenOff_13 rfl rfl ?_
    refine s_callF (pc := 14) (As := []) (st := []) (stf := fun r9 => .int r9 :: []) (x := ⟨"java/util/Iterator", "hasNext", "()Z"⟩) hF (mX9_hasNext l3) cw_X9_hasNext rfl ⟨by decide, by decide⟩ q298 q304 n_q300 n_q299 n_q305 (List.forall_mem_cons.mpr ⟨⟨(RX9, TX9, 2), rfl, q302, n_q303, n_q301⟩, fun _ h9 => absurd h9 List.not_mem_nil⟩) rfl ⟨Nat.le_of_ble_eq_true rfl, Nat.le_of_ble_eq_true rfl⟩ ⟨trivial, Nat.le_of_ble_eq_true rfl⟩ dX0_isBrokenOff_14 rfl (fun _ => rfl) (fun v1 M2 z3 => ?_)
    refine s_if_eq (pc := 19) hF 39 dX0_isBrokenOff_19 rfl ?_ ?_
    · refine s_aload_n (pc := 39) hF dX0_isBrokenOff_39 rfl rfl ?_
      refine s_ifnull (pc := 40) hF 54 dX0_isBrokenOff_40 rfl ?_ ?_
      · refine s_iconst (pc := 54) hF dX0_isBrokenOff_54 (0 : Int32) (by decide) ?_
        exact s_zretL (pc := 55) hF dX0_isBrokenOff_55 (by decide)
      · refine s_aload_n (pc := 43) hF dX0_isBrokenOff_43 rfl rfl ?_
        refine s_callV (pc := 44) (As := []) (st := []) (stf := fun r9 => .int r9 :: []) hF (mX5_isBroken l2) cw_X5_isBroken q862 q863 (List.forall_mem_cons.mpr ⟨⟨(RX5, TX5, 8), rfl, q864⟩, fun _ h9 => absurd h9 List.not_mem_nil⟩) rfl ⟨Nat.le_of_ble_eq_true rfl, Nat.le_of_ble_eq_true rfl⟩ ⟨trivial, Nat.le_of_ble_eq_true rfl⟩ dX0_isBrokenOff_44 rfl (fun _ => rfl) (fun v4 M5 z6 => ?_)
        refine s_if_eq (pc := 47) hF 54 dX0_isBrokenOff_47 rfl ?_ ?_
        · refine s_iconst (pc := 54) hF dX0_isBrokenOff_54 (0 : Int32) (by decide) ?_
          exact s_zretL (pc := 55) hF dX0_isBrokenOff_55 (by decide)
        · refine s_iconst (pc := 50) hF dX0_isBrokenOff_50 (1 : Int32) (by decide) ?_
          refine s_goto (pc := 51) hF 55 dX0_isBrokenOff_51 rfl ?_
          exact s_zretL (pc := 55) hF dX0_isBrokenOff_55 (by decide)
    · refine s_aload_n (pc := 22) hF dX0_isBrokenOff_22 rfl rfl ?_
      refine s_callF (pc := 23) (As := []) (st := []) (stf := fun r9 => va_rf r9 :: []) (x := ⟨"java/util/Iterator", "next", "()Ljava/lang/Object;"⟩) hF (mX9_next l3) cw_X9_next rfl ⟨by decide, by decide⟩ q381 q334 n_q331 n_q330 n_q335 (List.forall_mem_cons.mpr ⟨⟨(RX9, TX9, 2), rfl, q332, n_q333, n_q301⟩, fun _ h9 => absurd h9 List.not_mem_nil⟩) rfl ⟨Nat.le_of_ble_eq_true rfl, Nat.le_of_ble_eq_true rfl⟩ ⟨trivial, Nat.le_of_ble_eq_true rfl⟩ dX0_isBrokenOff_23 rfl (fun _ => rfl) (fun v7 M8 z9 => ?_)
      refine s_cast (pc := 28) hF q685 (List.forall_mem_cons.mpr ⟨⟨(RX5, TX5, 8), rfl, Or.inl rfl⟩, fun _ h9 => absurd h9 List.not_mem_nil⟩) dX0_isBrokenOff_28 ?_
      refine s_astore (L9 := [none, none, some (va_rf l2), some (va_rf l3), some (va_rf v7)]) (pc := 31) hF dX0_isBrokenOff_31 (Nat.le_of_ble_eq_true rfl) rfl ?_
      refine s_aload (pc := 33) hF dX0_isBrokenOff_33 rfl ?_
      refine s_astore_n (L9 := [none, none, some (va_rf v7), some (va_rf l3), some (va_rf v7)]) (pc := 35) hF dX0_isBrokenOff_35 rfl (Nat.le_of_ble_eq_true rfl) rfl ?_
      refine s_goto (pc := 36) hF 13 dX0_isBrokenOff_36 rfl ?_
      exact SK.sb (ih v7 l3 M8 z9) ⟨rfl, ⟨rfl, trivial⟩⟩
def fX0_isBrokenOff (a0 : Option Nat) (a1 : Int32) (M : Mp) (z : Nat) : Rs Int32 := if ckc M a0 [0] = true then
  (cb (fX0_chain a0 a1 M z) z fun v1 M2 z3 =>
if ckc M2 v1 [8] = true then
  (cb (fX8_iterator v1 M2 z3) z3 fun v4 M5 z6 =>
fX0_isBrokenOff_L13 FU none v4 M5 z6)
else none)
else none
theorem gX0_isBrokenOff {G : Cx} {F : Option Value × Mp × Nat} (hF : FX G cX0_isBrokenOff 5 RX0 (Option.some Jvm.ClassFile.FieldType.boolean) "isBrokenOff" 5 104) (a0 : Option Nat) (a1 : Int32) (M : Mp) (z : Nat) : SK G F 5 eI 0 [some (va_rf a0), some (.int a1), none, none, none] [] M z (fX0_isBrokenOff a0 a1 M z) := by
  unfold fX0_isBrokenOff
  refine s_null (pc := 0) hF dX0_isBrokenOff_0 ?_
  refine s_astore_n (L9 := [some (va_rf a0), some (.int a1), some (va_rf none), none, none]) (pc := 1) hF dX0_isBrokenOff_1 rfl (Nat.le_of_ble_eq_true rfl) rfl ?_
  refine s_aload_n (pc := 2) hF dX0_isBrokenOff_2 rfl rfl ?_
  refine s_iload_n (pc := 3) hF dX0_isBrokenOff_3 rfl rfl ?_
  refine s_callV (pc := 4) (As := [.int a1]) (st := []) (stf := fun r9 => va_rf r9 :: []) hF (mX0_chain a0 a1) cw_X0_chain q931 q933 (List.forall_mem_cons.mpr ⟨⟨(RX0, TX0, 6), rfl, qs21⟩, fun _ h9 => absurd h9 List.not_mem_nil⟩) rfl ⟨Nat.le_of_ble_eq_true rfl, Nat.le_of_ble_eq_true rfl⟩ ⟨trivial, Nat.le_of_ble_eq_true rfl⟩ dX0_isBrokenOff_4 rfl (fun _ => rfl) (fun v1 M2 z3 => ?_)
  refine s_callF (pc := 7) (As := []) (st := []) (stf := fun r9 => va_rf r9 :: []) (x := ⟨"java/lang/Iterable", "iterator", "()Ljava/util/Iterator;"⟩) hF (mX8_iterator v1) cw_X8_iterator rfl ⟨by decide, by decide⟩ q950 q956 n_q952 n_q951 n_q957 (List.forall_mem_cons.mpr ⟨⟨(RX8, TX8, 2), rfl, q954, n_q955, n_q953⟩, fun _ h9 => absurd h9 List.not_mem_nil⟩) rfl ⟨Nat.le_of_ble_eq_true rfl, Nat.le_of_ble_eq_true rfl⟩ ⟨trivial, Nat.le_of_ble_eq_true rfl⟩ dX0_isBrokenOff_7 rfl (fun _ => rfl) (fun v4 M5 z6 => ?_)
  refine s_astore_n (L9 := [some (va_rf a0), some (.int a1), some (va_rf none), some (va_rf v4), none]) (pc := 12) hF dX0_isBrokenOff_12 rfl (Nat.le_of_ble_eq_true rfl) rfl ?_
  exact SK.sb (gX0_isBrokenOff_L13 hF FU none v4 M5 z6) ⟨rfl, ⟨rfl, trivial⟩⟩
theorem mX0_isBrokenOff (a0 : Option Nat) (a1 : Int32) : MT yX0_isBrokenOff cX0_isBrokenOff 5 (Option.some Jvm.ClassFile.FieldType.boolean) 5 104 eI [va_rf a0, .int a1] (fX0_isBrokenOff a0 a1) :=
  MT.of (L0 := [some (va_rf a0), some (.int a1), none, none, none]) (by decide) ⟨ct _, ⟨rfl, trivial⟩⟩ (Nat.le_of_ble_eq_true rfl) rfl (fun _ _ hF M z => gX0_isBrokenOff hF a0 a1 M z)

theorem cw_X0_sum : CWm yX0_sum cX0_sum 7 (Option.some Jvm.ClassFile.FieldType.int) 3 := ⟨q910, q59, by decide +kernel, by decide +kernel, by decide +kernel⟩
theorem cw_X0_pagesOf : CWm yX0_pagesOf cX0_pagesOf 4 (Option.some Jvm.ClassFile.FieldType.int) 1 := ⟨q984, q59, by decide +kernel, by decide +kernel, by decide +kernel⟩
theorem fl_X0_213 {G : Cx} {nL fr lc : Nat} {cc : ByteArray} {ret : Option FieldType} {nm : String} (hF : FX G cc nL RX0 ret nm fr lc) : ∀ c ∈ [0], GF G RX0 213 c 5 := by
  obtain ⟨⟨p, l, e, R, s, m, args, below, meth, c0⟩, A, D, dA, mi⟩ := G
  obtain ⟨hx, hb, hml, hown, hts, hr, hlk, hK, hnm, hfr, hlc⟩ := hF
  exact List.forall_mem_cons.mpr ⟨⟨RX0, TX0, 6, "StoryColumns", rfl, in_X0, Nat.le_of_ble_eq_true rfl, Or.inl (hts _ q127), fun _ h => h⟩, fun _ h9 => absurd h9 List.not_mem_nil⟩
theorem cw_X0_isBrokenOff : CWm yX0_isBrokenOff cX0_isBrokenOff 5 (Option.some Jvm.ClassFile.FieldType.boolean) 1 := ⟨q1011, q59, by decide +kernel, by decide +kernel, by decide +kernel⟩
theorem cw_X0_isArticle : CWm yX0_isArticle cX0_isArticle 2 (Option.some Jvm.ClassFile.FieldType.boolean) 1 := ⟨q906, q59, by decide +kernel, by decide +kernel, by decide +kernel⟩
def fX0_ofArticle (a0 : Option Nat) (a1 : Int32) (a2 : Int32) (M : Mp) (z : Nat) : Rs Int32 := if ckc M a0 [0] = true then
  (cb (fX0_isArticle a0 a1 M z) z fun v1 M2 z3 =>
if v1 = 0 then
  (some ((-1 : Int32), M2, 0, 0))
else
  (if a2 = 0 then
  ((gr M2 a0 [0] 4).bind fun v4 =>
if ckc M2 v4 [11] = true then
  (cb (fJ2_get v4 a1 M2 z3) z3 fun v5 M6 z7 =>
if cst M6 v5 [5] = true then
  (if ckc M6 v5 [5] = true then
  (cb (fX5_number v5 M6 z7) z7 fun v8 M9 z10 =>
some (v8, M9, 0, 0))
else none)
else none)
else none)
else if a2 = 1 then
  (if ckc M2 a0 [0] = true then
  (cb (fX0_sum a0 a1 (0 : Int32) (0 : Int32) M2 z3) z3 fun v11 M12 z13 =>
some (v11, M12, 0, 0))
else none)
else if a2 = 2 then
  (if ckc M2 a0 [0] = true then
  (cb (fX0_sum a0 a1 (0 : Int32) (1 : Int32) M2 z3) z3 fun v14 M15 z16 =>
some (v14, M15, 0, 0))
else none)
else if a2 = 3 then
  (if ckc M2 a0 [0] = true then
  (cb (fX0_sum a0 a1 (1 : Int32) (0 : Int32) M2 z3) z3 fun v17 M18 z19 =>
some (v17, M18, 0, 0))
else none)
else if a2 = 4 then
  (if ckc M2 a0 [0] = true then
  (cb (fX0_pagesOf a0 a1 M2 z3) z3 fun v20 M21 z22 =>
some (v20, M21, 0, 0))
else none)
else if a2 = 5 then
  ((gi M2 a0 [0] 5).bind fun v23 =>
if a1 < v23 then
  (some ((0 : Int32), M2, 0, 0))
else
  (some ((1 : Int32), M2, 0, 0)))
else if a2 = 6 then
  (if ckc M2 a0 [0] = true then
  (cb (fX0_isBrokenOff a0 a1 M2 z3) z3 fun v24 M25 z26 =>
if v24 = 0 then
  (some ((0 : Int32), M25, 0, 0))
else
  (some ((1 : Int32), M25, 0, 0)))
else none)
else 
  (some ((-2 : Int32), M2, 0, 0))))
else none
theorem gX0_ofArticle {G : Cx} {F : Option Value × Mp × Nat} (hF : FX G cX0_ofArticle 3 RX0 (Option.some Jvm.ClassFile.FieldType.int) "ofArticle" 15 395) (a0 : Option Nat) (a1 : Int32) (a2 : Int32) (M : Mp) (z : Nat) : SK G F 3 eI 0 [some (va_rf a0), some (.int a1), some (.int a2)] [] M z (fX0_ofArticle a0 a1 a2 M z) := by
  unfold fX0_ofArticle
  refine s_aload_n (pc := 0) hF dX0_ofArticle_0 rfl rfl ?_
  refine s_iload_n (pc := 1) hF dX0_ofArticle_1 rfl rfl ?_
  refine s_callV (pc := 2) (As := [.int a1]) (st := []) (stf := fun r9 => .int r9 :: []) hF (mX0_isArticle a0 a1) cw_X0_isArticle q903 q905 (List.forall_mem_cons.mpr ⟨⟨(RX0, TX0, 6), rfl, qs19⟩, fun _ h9 => absurd h9 List.not_mem_nil⟩) rfl ⟨Nat.le_of_ble_eq_true rfl, Nat.le_of_ble_eq_true rfl⟩ ⟨trivial, Nat.le_of_ble_eq_true rfl⟩ dX0_ofArticle_2 rfl (fun _ => rfl) (fun v1 M2 z3 => ?_)
  refine s_if_ne (pc := 5) hF 10 dX0_ofArticle_5 rfl ?_ ?_
  · refine s_iload_n (pc := 10) hF dX0_ofArticle_10 rfl rfl ?_
    refine s_case (v := 0) (pc := 11) hF 52 dX0_ofArticle_11 (by decide) rfl rfl ?_ (fun h9_0 => ?_)
    · refine s_aload_n (pc := 52) hF dX0_ofArticle_52 rfl rfl ?_
      refine s_getr (pc := 53) hF (fl_X0_24 hF) dX0_ofArticle_53 (fun v4 => ?_)
      refine s_iload_n (pc := 56) hF dX0_ofArticle_56 rfl rfl ?_
      refine s_callF (pc := 57) (As := [.int a1]) (st := []) (stf := fun r9 => va_rf r9 :: []) (x := ⟨"java/util/List", "get", "(I)Ljava/lang/Object;"⟩) hF (mJ2_get v4 a1) cw_J2_get rfl ⟨by decide, by decide⟩ q523 q356 n_q353 n_q352 n_q357 (List.forall_mem_cons.mpr ⟨⟨(RJ2, TJ2, 3), rfl, q354, n_q355, n_q155⟩, fun _ h9 => absurd h9 List.not_mem_nil⟩) rfl ⟨Nat.le_of_ble_eq_true rfl, Nat.le_of_ble_eq_true rfl⟩ ⟨trivial, Nat.le_of_ble_eq_true rfl⟩ dX0_ofArticle_57 rfl (fun _ => rfl) (fun v5 M6 z7 => ?_)
      refine s_cast (pc := 62) hF q685 (List.forall_mem_cons.mpr ⟨⟨(RX5, TX5, 8), rfl, Or.inl rfl⟩, fun _ h9 => absurd h9 List.not_mem_nil⟩) dX0_ofArticle_62 ?_
      refine s_callV (pc := 65) (As := []) (st := []) (stf := fun r9 => .int r9 :: []) hF (mX5_number v5) cw_X5_number q786 q787 (List.forall_mem_cons.mpr ⟨⟨(RX5, TX5, 8), rfl, q788⟩, fun _ h9 => absurd h9 List.not_mem_nil⟩) rfl ⟨Nat.le_of_ble_eq_true rfl, Nat.le_of_ble_eq_true rfl⟩ ⟨trivial, Nat.le_of_ble_eq_true rfl⟩ dX0_ofArticle_65 rfl (fun _ => rfl) (fun v8 M9 z10 => ?_)
      exact s_iret (pc := 68) hF dX0_ofArticle_68
    refine s_case (v := 1) (pc := 11) hF 69 dX0_ofArticle_11 (by decide) rfl rfl ?_ (fun h9_1 => ?_)
    · refine s_aload_n (pc := 69) hF dX0_ofArticle_69 rfl rfl ?_
      refine s_iload_n (pc := 70) hF dX0_ofArticle_70 rfl rfl ?_
      refine s_iconst (pc := 71) hF dX0_ofArticle_71 (0 : Int32) (by decide) ?_
      refine s_iconst (pc := 72) hF dX0_ofArticle_72 (0 : Int32) (by decide) ?_
      refine s_callV (pc := 73) (As := [.int a1, .int (0 : Int32), .int (0 : Int32)]) (st := []) (stf := fun r9 => .int r9 :: []) hF (mX0_sum a0 a1 (0 : Int32) (0 : Int32)) cw_X0_sum q907 q909 (List.forall_mem_cons.mpr ⟨⟨(RX0, TX0, 6), rfl, qs20⟩, fun _ h9 => absurd h9 List.not_mem_nil⟩) rfl ⟨Nat.le_of_ble_eq_true rfl, Nat.le_of_ble_eq_true rfl⟩ ⟨trivial, Nat.le_of_ble_eq_true rfl⟩ dX0_ofArticle_73 rfl (fun _ => rfl) (fun v11 M12 z13 => ?_)
      exact s_iret (pc := 76) hF dX0_ofArticle_76
    refine s_case (v := 2) (pc := 11) hF 77 dX0_ofArticle_11 (by decide) rfl rfl ?_ (fun h9_2 => ?_)
    · refine s_aload_n (pc := 77) hF dX0_ofArticle_77 rfl rfl ?_
      refine s_iload_n (pc := 78) hF dX0_ofArticle_78 rfl rfl ?_
      refine s_iconst (pc := 79) hF dX0_ofArticle_79 (0 : Int32) (by decide) ?_
      refine s_iconst (pc := 80) hF dX0_ofArticle_80 (1 : Int32) (by decide) ?_
      refine s_callV (pc := 81) (As := [.int a1, .int (0 : Int32), .int (1 : Int32)]) (st := []) (stf := fun r9 => .int r9 :: []) hF (mX0_sum a0 a1 (0 : Int32) (1 : Int32)) cw_X0_sum q907 q909 (List.forall_mem_cons.mpr ⟨⟨(RX0, TX0, 6), rfl, qs20⟩, fun _ h9 => absurd h9 List.not_mem_nil⟩) rfl ⟨Nat.le_of_ble_eq_true rfl, Nat.le_of_ble_eq_true rfl⟩ ⟨trivial, Nat.le_of_ble_eq_true rfl⟩ dX0_ofArticle_81 rfl (fun _ => rfl) (fun v14 M15 z16 => ?_)
      exact s_iret (pc := 84) hF dX0_ofArticle_84
    refine s_case (v := 3) (pc := 11) hF 85 dX0_ofArticle_11 (by decide) rfl rfl ?_ (fun h9_3 => ?_)
    · refine s_aload_n (pc := 85) hF dX0_ofArticle_85 rfl rfl ?_
      refine s_iload_n (pc := 86) hF dX0_ofArticle_86 rfl rfl ?_
      refine s_iconst (pc := 87) hF dX0_ofArticle_87 (1 : Int32) (by decide) ?_
      refine s_iconst (pc := 88) hF dX0_ofArticle_88 (0 : Int32) (by decide) ?_
      refine s_callV (pc := 89) (As := [.int a1, .int (1 : Int32), .int (0 : Int32)]) (st := []) (stf := fun r9 => .int r9 :: []) hF (mX0_sum a0 a1 (1 : Int32) (0 : Int32)) cw_X0_sum q907 q909 (List.forall_mem_cons.mpr ⟨⟨(RX0, TX0, 6), rfl, qs20⟩, fun _ h9 => absurd h9 List.not_mem_nil⟩) rfl ⟨Nat.le_of_ble_eq_true rfl, Nat.le_of_ble_eq_true rfl⟩ ⟨trivial, Nat.le_of_ble_eq_true rfl⟩ dX0_ofArticle_89 rfl (fun _ => rfl) (fun v17 M18 z19 => ?_)
      exact s_iret (pc := 92) hF dX0_ofArticle_92
    refine s_case (v := 4) (pc := 11) hF 93 dX0_ofArticle_11 (by decide) rfl rfl ?_ (fun h9_4 => ?_)
    · refine s_aload_n (pc := 93) hF dX0_ofArticle_93 rfl rfl ?_
      refine s_iload_n (pc := 94) hF dX0_ofArticle_94 rfl rfl ?_
      refine s_callV (pc := 95) (As := [.int a1]) (st := []) (stf := fun r9 => .int r9 :: []) hF (mX0_pagesOf a0 a1) cw_X0_pagesOf q981 q983 (List.forall_mem_cons.mpr ⟨⟨(RX0, TX0, 6), rfl, qs22⟩, fun _ h9 => absurd h9 List.not_mem_nil⟩) rfl ⟨Nat.le_of_ble_eq_true rfl, Nat.le_of_ble_eq_true rfl⟩ ⟨trivial, Nat.le_of_ble_eq_true rfl⟩ dX0_ofArticle_95 rfl (fun _ => rfl) (fun v20 M21 z22 => ?_)
      exact s_iret (pc := 98) hF dX0_ofArticle_98
    refine s_case (v := 5) (pc := 11) hF 99 dX0_ofArticle_11 (by decide) rfl rfl ?_ (fun h9_5 => ?_)
    · refine s_iload_n (pc := 99) hF dX0_ofArticle_99 rfl rfl ?_
      refine s_aload_n (pc := 100) hF dX0_ofArticle_100 rfl rfl ?_
      refine s_geti (pc := 101) hF (fl_X0_213 hF) dX0_ofArticle_101 (fun v23 => ?_)
      refine s_icmp_ge (pc := 104) hF 111 dX0_ofArticle_104 rfl ?_ ?_
      · refine s_iconst (pc := 111) hF dX0_ofArticle_111 (1 : Int32) (by decide) ?_
        exact s_iret (pc := 112) hF dX0_ofArticle_112
      · refine s_iconst (pc := 107) hF dX0_ofArticle_107 (0 : Int32) (by decide) ?_
        refine s_goto (pc := 108) hF 112 dX0_ofArticle_108 rfl ?_
        exact s_iret (pc := 112) hF dX0_ofArticle_112
    refine s_case (v := 6) (pc := 11) hF 113 dX0_ofArticle_11 (by decide) rfl rfl ?_ (fun h9_6 => ?_)
    · refine s_aload_n (pc := 113) hF dX0_ofArticle_113 rfl rfl ?_
      refine s_iload_n (pc := 114) hF dX0_ofArticle_114 rfl rfl ?_
      refine s_callV (pc := 115) (As := [.int a1]) (st := []) (stf := fun r9 => .int r9 :: []) hF (mX0_isBrokenOff a0 a1) cw_X0_isBrokenOff q1008 q1010 (List.forall_mem_cons.mpr ⟨⟨(RX0, TX0, 6), rfl, qs23⟩, fun _ h9 => absurd h9 List.not_mem_nil⟩) rfl ⟨Nat.le_of_ble_eq_true rfl, Nat.le_of_ble_eq_true rfl⟩ ⟨trivial, Nat.le_of_ble_eq_true rfl⟩ dX0_ofArticle_115 rfl (fun _ => rfl) (fun v24 M25 z26 => ?_)
      refine s_if_eq (pc := 118) hF 125 dX0_ofArticle_118 rfl ?_ ?_
      · refine s_iconst (pc := 125) hF dX0_ofArticle_125 (0 : Int32) (by decide) ?_
        exact s_iret (pc := 126) hF dX0_ofArticle_126
      · refine s_iconst (pc := 121) hF dX0_ofArticle_121 (1 : Int32) (by decide) ?_
        refine s_goto (pc := 122) hF 126 dX0_ofArticle_122 rfl ?_
        exact s_iret (pc := 126) hF dX0_ofArticle_126
    refine s_dflt (pc := 11) hF 127 dX0_ofArticle_11 (by
    have := lv_neT (a := 0) h9_0 rfl
    have := lv_neT (a := 1) h9_1 rfl
    have := lv_neT (a := 2) h9_2 rfl
    have := lv_neT (a := 3) h9_3 rfl
    have := lv_neT (a := 4) h9_4 rfl
    have := lv_neT (a := 5) h9_5 rfl
    have := lv_neT (a := 6) h9_6 rfl
    omega) rfl ?_
    refine s_bipush (pc := 127) hF dX0_ofArticle_127 (-2 : Int32) (by decide) ?_
    exact s_iret (pc := 129) hF dX0_ofArticle_129
  · refine s_iconst (pc := 8) hF dX0_ofArticle_8 (-1 : Int32) (by decide) ?_
    exact s_iret (pc := 9) hF dX0_ofArticle_9
theorem mX0_ofArticle (a0 : Option Nat) (a1 : Int32) (a2 : Int32) : MT yX0_ofArticle cX0_ofArticle 3 (Option.some Jvm.ClassFile.FieldType.int) 15 395 eI [va_rf a0, .int a1, .int a2] (fX0_ofArticle a0 a1 a2) :=
  MT.of (L0 := [some (va_rf a0), some (.int a1), some (.int a2)]) (by decide) ⟨ct _, ⟨rfl, ⟨rfl, trivial⟩⟩⟩ (Nat.le_of_ble_eq_true rfl) rfl (fun _ _ hF M z => gX0_ofArticle hF a0 a1 a2 M z)

def fX0_read_L36 : Nat → Int32 → Option Nat → Mp → Nat → Rs Int32
  | 0, _, _, _, _ => none
  | fu + 1, l3, l4, M, z => if ckc M l4 [10] = true then
  (cb (fX10_hasNext l4 M z) z fun v1 M2 z3 =>
if v1 = 0 then
  (some ((-9 : Int32), M2, 0, 0))
else
  (if ckc M2 l4 [10] = true then
  (cb (fX10_next_2 l4 M2 z3) z3 fun v4 M5 z6 =>
if l3 = 0 then
  ((gi M5 v4 [2, 3] 0).bind fun v7 =>
some (v7, M5, 0, 0))
else
  (fX0_read_L36 fu (l3 + (-1)) l4 M5 z6))
else none))
else none

theorem gX0_read_L36 {G : Cx} {F : Option Value × Mp × Nat} (hF : FX G cX0_read 6 RX0 (Option.some Jvm.ClassFile.FieldType.int) "read" 15 395) : ∀ (fu : Nat) (l3 : Int32) (l4 : Option Nat) (M : Mp) (z : Nat), SK G F 6 eI 36 [none, none, none, some (.int l3), some (va_rf l4), none] [] M z (fX0_read_L36 fu l3 l4 M z) := by
  intro fu
  induction fu with
  | zero => intros; exact SK.fail
  | succ fu ih =>
    intro l3 l4 M z
    rw [fX0_read_L36]
    refine s_aload (pc := 36) hF dX0_read_36 rfl ?_
    refine s_callV (pc := 38) (As := []) (st := []) (stf := fun r9 => .int r9 :: []) hF (mX10_hasNext l4) cw_X10_hasNext q1006 q310 (List.forall_mem_cons.mpr ⟨⟨(RX10, TX10, 4), rfl, q1358⟩, fun _ h9 => absurd h9 List.not_mem_nil⟩) rfl ⟨Nat.le_of_ble_eq_true rfl, Nat.le_of_ble_eq_true rfl⟩ ⟨trivial, Nat.le_of_ble_eq_true rfl⟩ dX0_read_38 rfl (fun _ => rfl) (fun v1 M2 z3 => ?_)
    refine s_if_eq (pc := 41) hF 67 dX0_read_41 rfl ?_ ?_
    · refine s_bipush (pc := 67) hF dX0_read_67 (-9 : Int32) (by decide) ?_
      exact s_iret (pc := 69) hF dX0_read_69
    · refine s_aload (pc := 44) hF dX0_read_44 rfl ?_
      refine s_callV (pc := 46) (As := []) (st := []) (stf := fun r9 => va_rf r9 :: []) hF (mX10_next_2 l4) cw_X10_next_2 q1007 q347 (List.forall_mem_cons.mpr ⟨⟨(RX10, TX10, 4), rfl, q348⟩, fun _ h9 => absurd h9 List.not_mem_nil⟩) rfl ⟨Nat.le_of_ble_eq_true rfl, Nat.le_of_ble_eq_true rfl⟩ ⟨trivial, Nat.le_of_ble_eq_true rfl⟩ dX0_read_46 rfl (fun _ => rfl) (fun v4 M5 z6 => ?_)
      refine s_astore (L9 := [none, none, none, some (.int l3), some (va_rf l4), some (va_rf v4)]) (pc := 49) hF dX0_read_49 (Nat.le_of_ble_eq_true rfl) rfl ?_
      refine s_iload_n (pc := 51) hF dX0_read_51 rfl rfl ?_
      refine s_if_ne (pc := 52) hF 61 dX0_read_52 rfl ?_ ?_
      · refine s_iinc (v := l3 + (-1)) (L9 := [none, none, none, some (.int (l3 + (-1))), some (va_rf l4), some (va_rf v4)]) (pc := 61) hF dX0_read_61 rfl rfl (Nat.le_of_ble_eq_true rfl) rfl ?_
        refine s_goto (pc := 64) hF 36 dX0_read_64 rfl ?_
        exact SK.sb (ih (l3 + (-1)) l4 M5 z6) ⟨rfl, ⟨rfl, trivial⟩⟩
      · refine s_aload (pc := 55) hF dX0_read_55 rfl ?_
        refine s_geti (pc := 57) hF (fl_X0_150 hF) dX0_read_57 (fun v7 => ?_)
        exact s_iret (pc := 60) hF dX0_read_60
def fX0_read (a0 : Option Nat) (a1 : Int32) (a2 : Int32) (M : Mp) (z : Nat) : Rs Int32 := if ckc M a0 [0] = true then
  (cb (fX0_isArticle a0 a1 M z) z fun v1 M2 z3 =>
if v1 = 0 then
  (some ((-1 : Int32), M2, 0, 0))
else
  (cb (fX0_in a2 (0 : Int32) (23 : Int32) M2 z3) z3 fun v4 M5 z6 =>
if v4 = 0 then
  (some ((-2 : Int32), M5, 0, 0))
else
  (nwo 10 4 [.null, .null, .int 0, .null] M5 z6 fun M7 z8 =>
if (some z6) = none then none else
  (cb (fX10_init (some z6) a0 a1 M7 z8) z8 fun _ M10 z11 =>
fX0_read_L36 FU a2 (some z6) M10 z11))))
else none
theorem gX0_read {G : Cx} {F : Option Value × Mp × Nat} (hF : FX G cX0_read 6 RX0 (Option.some Jvm.ClassFile.FieldType.int) "read" 15 395) (a0 : Option Nat) (a1 : Int32) (a2 : Int32) (M : Mp) (z : Nat) : SK G F 6 eI 0 [some (va_rf a0), some (.int a1), some (.int a2), none, none, none] [] M z (fX0_read a0 a1 a2 M z) := by
  unfold fX0_read
  refine s_aload_n (pc := 0) hF dX0_read_0 rfl rfl ?_
  refine s_iload_n (pc := 1) hF dX0_read_1 rfl rfl ?_
  refine s_callV (pc := 2) (As := [.int a1]) (st := []) (stf := fun r9 => .int r9 :: []) hF (mX0_isArticle a0 a1) cw_X0_isArticle q903 q905 (List.forall_mem_cons.mpr ⟨⟨(RX0, TX0, 6), rfl, qs19⟩, fun _ h9 => absurd h9 List.not_mem_nil⟩) rfl ⟨Nat.le_of_ble_eq_true rfl, Nat.le_of_ble_eq_true rfl⟩ ⟨trivial, Nat.le_of_ble_eq_true rfl⟩ dX0_read_2 rfl (fun _ => rfl) (fun v1 M2 z3 => ?_)
  refine s_if_ne (pc := 5) hF 10 dX0_read_5 rfl ?_ ?_
  · refine s_iload_n (pc := 10) hF dX0_read_10 rfl rfl ?_
    refine s_iconst (pc := 11) hF dX0_read_11 (0 : Int32) (by decide) ?_
    refine s_bipush (pc := 12) hF dX0_read_12 (23 : Int32) (by decide) ?_
    refine s_callS (pc := 14) (As := [.int a2, .int (0 : Int32), .int (23 : Int32)]) (st := []) (stf := fun r9 => .int r9 :: []) hF (mX0_in a2 (0 : Int32) (23 : Int32)) cw_X0_in q145 q146 rfl ⟨Nat.le_of_ble_eq_true rfl, Nat.le_of_ble_eq_true rfl⟩ ⟨trivial, Nat.le_of_ble_eq_true rfl⟩ dX0_read_14 rfl (fun _ => rfl) (fun v4 M5 z6 => ?_)
    refine s_if_ne (pc := 17) hF 23 dX0_read_17 rfl ?_ ?_
    · refine s_iload_n (pc := 23) hF dX0_read_23 rfl rfl ?_
      refine s_istore_n (L9 := [some (va_rf a0), some (.int a1), some (.int a2), some (.int a2), none, none]) (pc := 24) hF dX0_read_24 rfl (Nat.le_of_ble_eq_true rfl) rfl ?_
      refine s_nwo (pc := 25) hF dX0_read_25 rfl in_X10 tyX10 tyX10_ok q985 q316 q79 (fun j hj => by rcases (show j = 0 ∨ j = 1 ∨ j = 2 ∨ j = 3 by omega) with rfl | rfl | rfl | rfl <;> rfl) (fun M7 z8 => ?_)
      refine s_dup (pc := 28) hF dX0_read_28 (ct _) ?_
      refine s_aload_n (pc := 29) hF dX0_read_29 rfl rfl ?_
      refine s_iload_n (pc := 30) hF dX0_read_30 rfl rfl ?_
      refine s_callJ (pc := 31) (As := [va_rf a0, .int a1]) (st := [va_rf (some z6)]) (stf := fun r9 => [va_rf (some z6)]) hF (mX10_init (some z6) a0 a1) cw_X10_init q986 q987 rfl rfl ⟨Nat.le_of_ble_eq_true rfl, Nat.le_of_ble_eq_true rfl⟩ ⟨⟨ct _, trivial⟩, Nat.le_of_ble_eq_true rfl⟩ dX0_read_31 rfl (fun _ => rfl) (fun v9 M10 z11 => ?_)
      refine s_astore (L9 := [some (va_rf a0), some (.int a1), some (.int a2), some (.int a2), some (va_rf (some z6)), none]) (pc := 34) hF dX0_read_34 (Nat.le_of_ble_eq_true rfl) rfl ?_
      exact SK.sb (gX0_read_L36 hF FU a2 (some z6) M10 z11) ⟨rfl, ⟨rfl, trivial⟩⟩
    · refine s_bipush (pc := 20) hF dX0_read_20 (-2 : Int32) (by decide) ?_
      exact s_iret (pc := 22) hF dX0_read_22
  · refine s_iconst (pc := 8) hF dX0_read_8 (-1 : Int32) (by decide) ?_
    exact s_iret (pc := 9) hF dX0_read_9
theorem mX0_read (a0 : Option Nat) (a1 : Int32) (a2 : Int32) : MT yX0_read cX0_read 6 (Option.some Jvm.ClassFile.FieldType.int) 15 395 eI [va_rf a0, .int a1, .int a2] (fX0_read a0 a1 a2) :=
  MT.of (L0 := [some (va_rf a0), some (.int a1), some (.int a2), none, none, none]) (by decide) ⟨ct _, ⟨rfl, ⟨rfl, trivial⟩⟩⟩ (Nat.le_of_ble_eq_true rfl) rfl (fun _ _ hF M z => gX0_read hF a0 a1 a2 M z)

def fX0_manyOf_J47 (r12 : Int32 → Int32 → Option Nat → Mp → Nat → Rs Int32) (l1 : Int32) (l3 : Option Nat) (s0 : Int32) (s1 : Int32) (M : Mp) (z : Nat) : Rs Int32 := r12 l1 (s0 + s1) l3 M z

theorem gX0_manyOf_J47 {G : Cx} {F : Option Value × Mp × Nat}  {r12 : Int32 → Int32 → Option Nat → Mp → Nat → Rs Int32}(hF : FX G cX0_manyOf 5 RX0 (Option.some Jvm.ClassFile.FieldType.int) "manyOf" 3 61) (hr12 : ∀ l1 l2 l3 M z, SK G F 5 eI 12 [none, some (.int l1), some (.int l2), some (va_rf l3), none] [] M z (r12 l1 l2 l3 M z)) (l1 : Int32) (l3 : Option Nat) (s0 : Int32) (s1 : Int32) (M : Mp) (z : Nat) : SK G F 5 eI 47 [none, some (.int l1), none, some (va_rf l3), none] [.int s1, .int s0] M z (fX0_manyOf_J47 r12 l1 l3 s0 s1 M z) := by
  unfold fX0_manyOf_J47
  refine s_iadd (pc := 47) hF dX0_manyOf_47 ?_
  refine s_istore_n (L9 := [none, some (.int l1), some (.int (s0 + s1)), some (va_rf l3), none]) (pc := 48) hF dX0_manyOf_48 rfl (Nat.le_of_ble_eq_true rfl) rfl ?_
  refine s_goto (pc := 49) hF 12 dX0_manyOf_49 rfl ?_
  exact SK.sb (hr12 l1 (s0 + s1) l3 M z) ⟨rfl, ⟨rfl, ⟨rfl, trivial⟩⟩⟩

def fX0_manyOf_L12 : Nat → Int32 → Int32 → Option Nat → Mp → Nat → Rs Int32
  | 0, _, _, _, _, _ => none
  | fu + 1, l1, l2, l3, M, z => if ckc M l3 [12] = true then
  (cb (fJ3_hasNext l3 M z) z fun v1 M2 z3 =>
if v1 = 0 then
  (some (l2, M2, 0, 0))
else
  (if ckc M2 l3 [12] = true then
  (cb (fJ3_next l3 M2 z3) z3 fun v4 M5 z6 =>
if cst M5 v4 [2, 3] = true then
  ((gi M5 v4 [2, 3] 2).bind fun v7 =>
if v7 = l1 then
  (fX0_manyOf_J47 (fX0_manyOf_L12 fu) l1 l3 l2 (1 : Int32) M5 z6)
else
  (fX0_manyOf_J47 (fX0_manyOf_L12 fu) l1 l3 l2 (0 : Int32) M5 z6))
else none)
else none))
else none

theorem gX0_manyOf_L12 {G : Cx} {F : Option Value × Mp × Nat} (hF : FX G cX0_manyOf 5 RX0 (Option.some Jvm.ClassFile.FieldType.int) "manyOf" 3 61) : ∀ (fu : Nat) (l1 : Int32) (l2 : Int32) (l3 : Option Nat) (M : Mp) (z : Nat), SK G F 5 eI 12 [none, some (.int l1), some (.int l2), some (va_rf l3), none] [] M z (fX0_manyOf_L12 fu l1 l2 l3 M z) := by
  intro fu
  induction fu with
  | zero => intros; exact SK.fail
  | succ fu ih =>
    intro l1 l2 l3 M z
    rw [fX0_manyOf_L12]
    refine s_aload_n (pc := 12) hF dX0_manyOf_12 rfl rfl ?_
    refine s_callF (pc := 13) (As := []) (st := []) (stf := fun r9 => .int r9 :: []) (x := ⟨"java/util/Iterator", "hasNext", "()Z"⟩) hF (mJ3_hasNext l3) cw_J3_hasNext rfl ⟨by decide, by decide⟩ q298 q325 n_q300 n_q299 n_q326 (List.forall_mem_cons.mpr ⟨⟨(RJ3, TJ3, 4), rfl, q323, n_q324, n_q322⟩, fun _ h9 => absurd h9 List.not_mem_nil⟩) rfl ⟨Nat.le_of_ble_eq_true rfl, Nat.le_of_ble_eq_true rfl⟩ ⟨trivial, Nat.le_of_ble_eq_true rfl⟩ dX0_manyOf_13 rfl (fun _ => rfl) (fun v1 M2 z3 => ?_)
    refine s_if_eq (pc := 18) hF 52 dX0_manyOf_18 rfl ?_ ?_
    · refine s_iload_n (pc := 52) hF dX0_manyOf_52 rfl rfl ?_
      exact s_iret (pc := 53) hF dX0_manyOf_53
    · refine s_aload_n (pc := 21) hF dX0_manyOf_21 rfl rfl ?_
      refine s_callF (pc := 22) (As := []) (st := []) (stf := fun r9 => va_rf r9 :: []) (x := ⟨"java/util/Iterator", "next", "()Ljava/lang/Object;"⟩) hF (mJ3_next l3) cw_J3_next rfl ⟨by decide, by decide⟩ q381 q372 n_q331 n_q330 n_q373 (List.forall_mem_cons.mpr ⟨⟨(RJ3, TJ3, 4), rfl, q370, n_q371, n_q322⟩, fun _ h9 => absurd h9 List.not_mem_nil⟩) rfl ⟨Nat.le_of_ble_eq_true rfl, Nat.le_of_ble_eq_true rfl⟩ ⟨trivial, Nat.le_of_ble_eq_true rfl⟩ dX0_manyOf_22 rfl (fun _ => rfl) (fun v4 M5 z6 => ?_)
      refine s_cast (pc := 27) hF q252 (List.forall_mem_cons.mpr ⟨⟨(RX2, TX2, 13), rfl, Or.inl rfl⟩, List.forall_mem_cons.mpr ⟨⟨(RX3, TX3, 14), rfl, Or.inr n_q1359⟩, fun _ h9 => absurd h9 List.not_mem_nil⟩⟩) dX0_manyOf_27 ?_
      refine s_astore (L9 := [none, some (.int l1), some (.int l2), some (va_rf l3), some (va_rf v4)]) (pc := 30) hF dX0_manyOf_30 (Nat.le_of_ble_eq_true rfl) rfl ?_
      refine s_iload_n (pc := 32) hF dX0_manyOf_32 rfl rfl ?_
      refine s_aload (pc := 33) hF dX0_manyOf_33 rfl ?_
      refine s_geti (pc := 35) hF (fl_X0_134 hF) dX0_manyOf_35 (fun v7 => ?_)
      refine s_iload_n (pc := 38) hF dX0_manyOf_38 rfl rfl ?_
      refine s_icmp_ne (pc := 39) hF 46 dX0_manyOf_39 rfl ?_ ?_
      · refine s_iconst (pc := 46) hF dX0_manyOf_46 (0 : Int32) (by decide) ?_
        exact SK.sb (gX0_manyOf_J47 hF ih l1 l3 l2 (0 : Int32) M5 z6) ⟨rfl, ⟨rfl, trivial⟩⟩
      · refine s_iconst (pc := 42) hF dX0_manyOf_42 (1 : Int32) (by decide) ?_
        refine s_goto (pc := 43) hF 47 dX0_manyOf_43 rfl ?_
        exact SK.sb (gX0_manyOf_J47 hF ih l1 l3 l2 (1 : Int32) M5 z6) ⟨rfl, ⟨rfl, trivial⟩⟩
def fX0_manyOf (a0 : Option Nat) (a1 : Int32) (M : Mp) (z : Nat) : Rs Int32 := (gr M a0 [0] 0).bind fun v1 =>
if ckc M v1 [11] = true then
  (cb (fJ2_iterator v1 M z) z fun v2 M3 z4 =>
fX0_manyOf_L12 FU a1 (0 : Int32) v2 M3 z4)
else none
theorem gX0_manyOf {G : Cx} {F : Option Value × Mp × Nat} (hF : FX G cX0_manyOf 5 RX0 (Option.some Jvm.ClassFile.FieldType.int) "manyOf" 3 61) (a0 : Option Nat) (a1 : Int32) (M : Mp) (z : Nat) : SK G F 5 eI 0 [some (va_rf a0), some (.int a1), none, none, none] [] M z (fX0_manyOf a0 a1 M z) := by
  unfold fX0_manyOf
  refine s_iconst (pc := 0) hF dX0_manyOf_0 (0 : Int32) (by decide) ?_
  refine s_istore_n (L9 := [some (va_rf a0), some (.int a1), some (.int (0 : Int32)), none, none]) (pc := 1) hF dX0_manyOf_1 rfl (Nat.le_of_ble_eq_true rfl) rfl ?_
  refine s_aload_n (pc := 2) hF dX0_manyOf_2 rfl rfl ?_
  refine s_getr (pc := 3) hF (fl_X0_14 hF) dX0_manyOf_3 (fun v1 => ?_)
  refine s_callF (pc := 6) (As := []) (st := []) (stf := fun r9 => va_rf r9 :: []) (x := ⟨"java/util/List", "iterator", "()Ljava/util/Iterator;"⟩) hF (mJ2_iterator v1) cw_J2_iterator rfl ⟨by decide, by decide⟩ q270 q275 n_q272 n_q271 n_q276 (List.forall_mem_cons.mpr ⟨⟨(RJ2, TJ2, 3), rfl, q273, n_q274, n_q155⟩, fun _ h9 => absurd h9 List.not_mem_nil⟩) rfl ⟨Nat.le_of_ble_eq_true rfl, Nat.le_of_ble_eq_true rfl⟩ ⟨trivial, Nat.le_of_ble_eq_true rfl⟩ dX0_manyOf_6 rfl (fun _ => rfl) (fun v2 M3 z4 => ?_)
  refine s_astore_n (L9 := [some (va_rf a0), some (.int a1), some (.int (0 : Int32)), some (va_rf v2), none]) (pc := 11) hF dX0_manyOf_11 rfl (Nat.le_of_ble_eq_true rfl) rfl ?_
  exact SK.sb (gX0_manyOf_L12 hF FU a1 (0 : Int32) v2 M3 z4) ⟨rfl, ⟨rfl, ⟨rfl, trivial⟩⟩⟩
theorem mX0_manyOf (a0 : Option Nat) (a1 : Int32) : MT yX0_manyOf cX0_manyOf 5 (Option.some Jvm.ClassFile.FieldType.int) 3 61 eI [va_rf a0, .int a1] (fX0_manyOf a0 a1) :=
  MT.of (L0 := [some (va_rf a0), some (.int a1), none, none, none]) (by decide) ⟨ct _, ⟨rfl, trivial⟩⟩ (Nat.le_of_ble_eq_true rfl) rfl (fun _ _ hF M z => gX0_manyOf hF a0 a1 M z)

def fX0_manyBlocks_J156 (r12 : Int32 → Int32 → Option Nat → Mp → Nat → Rs Int32) (l1 : Int32) (l3 : Option Nat) (s0 : Int32) (s1 : Int32) (M : Mp) (z : Nat) : Rs Int32 := r12 l1 (s0 + s1) l3 M z

theorem gX0_manyBlocks_J156 {G : Cx} {F : Option Value × Mp × Nat}  {r12 : Int32 → Int32 → Option Nat → Mp → Nat → Rs Int32}(hF : FX G cX0_manyBlocks 6 RX0 (Option.some Jvm.ClassFile.FieldType.int) "manyBlocks" 3 61) (hr12 : ∀ l1 l2 l3 M z, SK G F 6 eI 12 [none, some (.int l1), some (.int l2), some (va_rf l3), none, none] [] M z (r12 l1 l2 l3 M z)) (l1 : Int32) (l3 : Option Nat) (s0 : Int32) (s1 : Int32) (M : Mp) (z : Nat) : SK G F 6 eI 156 [none, some (.int l1), none, some (va_rf l3), none, none] [.int s1, .int s0] M z (fX0_manyBlocks_J156 r12 l1 l3 s0 s1 M z) := by
  unfold fX0_manyBlocks_J156
  refine s_iadd (pc := 156) hF dX0_manyBlocks_156 ?_
  refine s_istore_n (L9 := [none, some (.int l1), some (.int (s0 + s1)), some (va_rf l3), none, none]) (pc := 157) hF dX0_manyBlocks_157 rfl (Nat.le_of_ble_eq_true rfl) rfl ?_
  refine s_goto (pc := 158) hF 12 dX0_manyBlocks_158 rfl ?_
  exact SK.sb (hr12 l1 (s0 + s1) l3 M z) ⟨rfl, ⟨rfl, ⟨rfl, trivial⟩⟩⟩

def fX0_manyBlocks_J143 (r12 : Int32 → Int32 → Option Nat → Mp → Nat → Rs Int32) (l1 : Int32) (l2 : Int32) (l3 : Option Nat) (s0 : Int32) (M : Mp) (z : Nat) : Rs Int32 := if s0 = 0 then
  (fX0_manyBlocks_J156 r12 l1 l3 l2 (0 : Int32) M z)
else
  (fX0_manyBlocks_J156 r12 l1 l3 l2 (1 : Int32) M z)

theorem gX0_manyBlocks_J143 {G : Cx} {F : Option Value × Mp × Nat}  {r12 : Int32 → Int32 → Option Nat → Mp → Nat → Rs Int32}(hF : FX G cX0_manyBlocks 6 RX0 (Option.some Jvm.ClassFile.FieldType.int) "manyBlocks" 3 61) (hr12 : ∀ l1 l2 l3 M z, SK G F 6 eI 12 [none, some (.int l1), some (.int l2), some (va_rf l3), none, none] [] M z (r12 l1 l2 l3 M z)) (l1 : Int32) (l2 : Int32) (l3 : Option Nat) (s0 : Int32) (M : Mp) (z : Nat) : SK G F 6 eI 143 [none, some (.int l1), some (.int l2), some (va_rf l3), none, none] [.int s0] M z (fX0_manyBlocks_J143 r12 l1 l2 l3 s0 M z) := by
  unfold fX0_manyBlocks_J143
  refine s_istore (L9 := [none, some (.int l1), some (.int l2), some (va_rf l3), none, some (.int s0)]) (pc := 143) hF dX0_manyBlocks_143 (Nat.le_of_ble_eq_true rfl) rfl ?_
  refine s_iload_n (pc := 145) hF dX0_manyBlocks_145 rfl rfl ?_
  refine s_iload (pc := 146) hF dX0_manyBlocks_146 rfl ?_
  refine s_if_eq (pc := 148) hF 155 dX0_manyBlocks_148 rfl ?_ ?_
  · refine s_iconst (pc := 155) hF dX0_manyBlocks_155 (0 : Int32) (by decide) ?_
    exact SK.sb (gX0_manyBlocks_J156 hF hr12 l1 l3 l2 (0 : Int32) M z) ⟨rfl, ⟨rfl, trivial⟩⟩
  · refine s_iconst (pc := 151) hF dX0_manyBlocks_151 (1 : Int32) (by decide) ?_
    refine s_goto (pc := 152) hF 156 dX0_manyBlocks_152 rfl ?_
    exact SK.sb (gX0_manyBlocks_J156 hF hr12 l1 l3 l2 (1 : Int32) M z) ⟨rfl, ⟨rfl, trivial⟩⟩

def fX0_manyBlocks_L12 : Nat → Int32 → Int32 → Option Nat → Mp → Nat → Rs Int32
  | 0, _, _, _, _, _ => none
  | fu + 1, l1, l2, l3, M, z => if ckc M l3 [12] = true then
  (cb (fJ3_hasNext l3 M z) z fun v1 M2 z3 =>
if v1 = 0 then
  (some (l2, M2, 0, 0))
else
  (if ckc M2 l3 [12] = true then
  (cb (fJ3_next l3 M2 z3) z3 fun v4 M5 z6 =>
if cst M5 v4 [2, 3] = true then
  (if l1 = (5 : Int32) then
  ((gr M5 v4 [2, 3] 11).bind fun v18 =>
if v18 = none then
  (fX0_manyBlocks_J143 (fX0_manyBlocks_L12 fu) l1 l2 l3 (0 : Int32) M5 z6)
else
  (fX0_manyBlocks_J143 (fX0_manyBlocks_L12 fu) l1 l2 l3 (1 : Int32) M5 z6))
else
  (if l1 = (6 : Int32) then
  (if ckc M5 v4 [2, 3] = true then
  (cb (fX2_isText v4 M5 z6) z6 fun v13 M14 z15 =>
if v13 = 0 then
  (fX0_manyBlocks_J143 (fX0_manyBlocks_L12 fu) l1 l2 l3 (0 : Int32) M14 z15)
else
  ((gr M14 v4 [2, 3] 10).bind fun v16 =>
(gr M14 v16 [5] 0).bind fun v17 =>
if v17 = none then
  (fX0_manyBlocks_J143 (fX0_manyBlocks_L12 fu) l1 l2 l3 (1 : Int32) M14 z15)
else
  (fX0_manyBlocks_J143 (fX0_manyBlocks_L12 fu) l1 l2 l3 (0 : Int32) M14 z15)))
else none)
else
  (if l1 = (10 : Int32) then
  ((gr M5 v4 [2, 3] 8).bind fun v9 =>
(ar M5 3 v9 (1 : Int32)).bind fun v10 =>
if v10 = none then
  (fX0_manyBlocks_J143 (fX0_manyBlocks_L12 fu) l1 l2 l3 (0 : Int32) M5 z6)
else
  ((gr M5 v4 [2, 3] 10).bind fun v11 =>
(gr M5 v11 [5] 5).bind fun v12 =>
if v12 = none then
  (fX0_manyBlocks_J143 (fX0_manyBlocks_L12 fu) l1 l2 l3 (1 : Int32) M5 z6)
else
  (fX0_manyBlocks_J143 (fX0_manyBlocks_L12 fu) l1 l2 l3 (0 : Int32) M5 z6)))
else
  ((gi M5 v4 [2, 3] 2).bind fun v7 =>
if v7 = (2 : Int32) then
  ((gr M5 v4 [2, 3] 9).bind fun v8 =>
if v8 = none then
  (fX0_manyBlocks_J143 (fX0_manyBlocks_L12 fu) l1 l2 l3 (1 : Int32) M5 z6)
else
  (fX0_manyBlocks_J143 (fX0_manyBlocks_L12 fu) l1 l2 l3 (0 : Int32) M5 z6))
else
  (fX0_manyBlocks_J143 (fX0_manyBlocks_L12 fu) l1 l2 l3 (0 : Int32) M5 z6)))))
else none)
else none))
else none

theorem gX0_manyBlocks_L12 {G : Cx} {F : Option Value × Mp × Nat} (hF : FX G cX0_manyBlocks 6 RX0 (Option.some Jvm.ClassFile.FieldType.int) "manyBlocks" 3 61) : ∀ (fu : Nat) (l1 : Int32) (l2 : Int32) (l3 : Option Nat) (M : Mp) (z : Nat), SK G F 6 eI 12 [none, some (.int l1), some (.int l2), some (va_rf l3), none, none] [] M z (fX0_manyBlocks_L12 fu l1 l2 l3 M z) := by
  intro fu
  induction fu with
  | zero => intros; exact SK.fail
  | succ fu ih =>
    intro l1 l2 l3 M z
    rw [fX0_manyBlocks_L12]
    refine s_aload_n (pc := 12) hF dX0_manyBlocks_12 rfl rfl ?_
    refine s_callF (pc := 13) (As := []) (st := []) (stf := fun r9 => .int r9 :: []) (x := ⟨"java/util/Iterator", "hasNext", "()Z"⟩) hF (mJ3_hasNext l3) cw_J3_hasNext rfl ⟨by decide, by decide⟩ q298 q325 n_q300 n_q299 n_q326 (List.forall_mem_cons.mpr ⟨⟨(RJ3, TJ3, 4), rfl, q323, n_q324, n_q322⟩, fun _ h9 => absurd h9 List.not_mem_nil⟩) rfl ⟨Nat.le_of_ble_eq_true rfl, Nat.le_of_ble_eq_true rfl⟩ ⟨trivial, Nat.le_of_ble_eq_true rfl⟩ dX0_manyBlocks_13 rfl (fun _ => rfl) (fun v1 M2 z3 => ?_)
    refine s_if_eq (pc := 18) hF 161 dX0_manyBlocks_18 rfl ?_ ?_
    · refine s_iload_n (pc := 161) hF dX0_manyBlocks_161 rfl rfl ?_
      exact s_iret (pc := 162) hF dX0_manyBlocks_162
    · refine s_aload_n (pc := 21) hF dX0_manyBlocks_21 rfl rfl ?_
      refine s_callF (pc := 22) (As := []) (st := []) (stf := fun r9 => va_rf r9 :: []) (x := ⟨"java/util/Iterator", "next", "()Ljava/lang/Object;"⟩) hF (mJ3_next l3) cw_J3_next rfl ⟨by decide, by decide⟩ q381 q372 n_q331 n_q330 n_q373 (List.forall_mem_cons.mpr ⟨⟨(RJ3, TJ3, 4), rfl, q370, n_q371, n_q322⟩, fun _ h9 => absurd h9 List.not_mem_nil⟩) rfl ⟨Nat.le_of_ble_eq_true rfl, Nat.le_of_ble_eq_true rfl⟩ ⟨trivial, Nat.le_of_ble_eq_true rfl⟩ dX0_manyBlocks_22 rfl (fun _ => rfl) (fun v4 M5 z6 => ?_)
      refine s_cast (pc := 27) hF q252 (List.forall_mem_cons.mpr ⟨⟨(RX2, TX2, 13), rfl, Or.inl rfl⟩, List.forall_mem_cons.mpr ⟨⟨(RX3, TX3, 14), rfl, Or.inr n_q1359⟩, fun _ h9 => absurd h9 List.not_mem_nil⟩⟩) dX0_manyBlocks_27 ?_
      refine s_astore (L9 := [none, some (.int l1), some (.int l2), some (va_rf l3), some (va_rf v4), none]) (pc := 30) hF dX0_manyBlocks_30 (Nat.le_of_ble_eq_true rfl) rfl ?_
      refine s_iload_n (pc := 32) hF dX0_manyBlocks_32 rfl rfl ?_
      refine s_iconst (pc := 33) hF dX0_manyBlocks_33 (5 : Int32) (by decide) ?_
      refine s_icmp_ne (pc := 34) hF 53 dX0_manyBlocks_34 rfl ?_ ?_
      · refine s_iload_n (pc := 53) hF dX0_manyBlocks_53 rfl rfl ?_
        refine s_bipush (pc := 54) hF dX0_manyBlocks_54 (6 : Int32) (by decide) ?_
        refine s_icmp_ne (pc := 56) hF 86 dX0_manyBlocks_56 rfl ?_ ?_
        · refine s_iload_n (pc := 86) hF dX0_manyBlocks_86 rfl rfl ?_
          refine s_bipush (pc := 87) hF dX0_manyBlocks_87 (10 : Int32) (by decide) ?_
          refine s_icmp_ne (pc := 89) hF 121 dX0_manyBlocks_89 rfl ?_ ?_
          · refine s_aload (pc := 121) hF dX0_manyBlocks_121 rfl ?_
            refine s_geti (pc := 123) hF (fl_X0_134 hF) dX0_manyBlocks_123 (fun v7 => ?_)
            refine s_iconst (pc := 126) hF dX0_manyBlocks_126 (2 : Int32) (by decide) ?_
            refine s_icmp_ne (pc := 127) hF 142 dX0_manyBlocks_127 rfl ?_ ?_
            · refine s_iconst (pc := 142) hF dX0_manyBlocks_142 (0 : Int32) (by decide) ?_
              exact SK.sb (gX0_manyBlocks_J143 hF ih l1 l2 l3 (0 : Int32) M5 z6) ⟨rfl, ⟨rfl, ⟨rfl, trivial⟩⟩⟩
            · refine s_aload (pc := 130) hF dX0_manyBlocks_130 rfl ?_
              refine s_getr (pc := 132) hF (fl_X0_172 hF) dX0_manyBlocks_132 (fun v8 => ?_)
              refine s_ifnonnull (pc := 135) hF 142 dX0_manyBlocks_135 rfl ?_ ?_
              · refine s_iconst (pc := 142) hF dX0_manyBlocks_142 (0 : Int32) (by decide) ?_
                exact SK.sb (gX0_manyBlocks_J143 hF ih l1 l2 l3 (0 : Int32) M5 z6) ⟨rfl, ⟨rfl, ⟨rfl, trivial⟩⟩⟩
              · refine s_iconst (pc := 138) hF dX0_manyBlocks_138 (1 : Int32) (by decide) ?_
                refine s_goto (pc := 139) hF 143 dX0_manyBlocks_139 rfl ?_
                exact SK.sb (gX0_manyBlocks_J143 hF ih l1 l2 l3 (1 : Int32) M5 z6) ⟨rfl, ⟨rfl, ⟨rfl, trivial⟩⟩⟩
          · refine s_aload (pc := 92) hF dX0_manyBlocks_92 rfl ?_
            refine s_getr (pc := 94) hF (fl_X0_260 hF) dX0_manyBlocks_94 (fun v9 => ?_)
            refine s_iconst (pc := 97) hF dX0_manyBlocks_97 (1 : Int32) (by decide) ?_
            refine s_aald (pc := 98) 3 (by decide) hF dX0_manyBlocks_98 (fun v10 => ?_)
            refine s_ifnull (pc := 99) hF 117 dX0_manyBlocks_99 rfl ?_ ?_
            · refine s_iconst (pc := 117) hF dX0_manyBlocks_117 (0 : Int32) (by decide) ?_
              refine s_goto (pc := 118) hF 143 dX0_manyBlocks_118 rfl ?_
              exact SK.sb (gX0_manyBlocks_J143 hF ih l1 l2 l3 (0 : Int32) M5 z6) ⟨rfl, ⟨rfl, ⟨rfl, trivial⟩⟩⟩
            · refine s_aload (pc := 102) hF dX0_manyBlocks_102 rfl ?_
              refine s_getr (pc := 104) hF (fl_X0_180 hF) dX0_manyBlocks_104 (fun v11 => ?_)
              refine s_getr (pc := 107) hF (fl_X0_201 hF) dX0_manyBlocks_107 (fun v12 => ?_)
              refine s_ifnonnull (pc := 110) hF 117 dX0_manyBlocks_110 rfl ?_ ?_
              · refine s_iconst (pc := 117) hF dX0_manyBlocks_117 (0 : Int32) (by decide) ?_
                refine s_goto (pc := 118) hF 143 dX0_manyBlocks_118 rfl ?_
                exact SK.sb (gX0_manyBlocks_J143 hF ih l1 l2 l3 (0 : Int32) M5 z6) ⟨rfl, ⟨rfl, ⟨rfl, trivial⟩⟩⟩
              · refine s_iconst (pc := 113) hF dX0_manyBlocks_113 (1 : Int32) (by decide) ?_
                refine s_goto (pc := 114) hF 143 dX0_manyBlocks_114 rfl ?_
                exact SK.sb (gX0_manyBlocks_J143 hF ih l1 l2 l3 (1 : Int32) M5 z6) ⟨rfl, ⟨rfl, ⟨rfl, trivial⟩⟩⟩
        · refine s_aload (pc := 59) hF dX0_manyBlocks_59 rfl ?_
          refine s_callV (pc := 61) (As := []) (st := []) (stf := fun r9 => .int r9 :: []) hF (mX2_isText v4) cw_X2_isText q524 q525 (List.forall_mem_cons.mpr ⟨⟨(RX2, TX2, 13), rfl, q526⟩, List.forall_mem_cons.mpr ⟨⟨(RX3, TX3, 14), rfl, q528⟩, fun _ h9 => absurd h9 List.not_mem_nil⟩⟩) rfl ⟨Nat.le_of_ble_eq_true rfl, Nat.le_of_ble_eq_true rfl⟩ ⟨trivial, Nat.le_of_ble_eq_true rfl⟩ dX0_manyBlocks_61 rfl (fun _ => rfl) (fun v13 M14 z15 => ?_)
          refine s_if_eq (pc := 64) hF 82 dX0_manyBlocks_64 rfl ?_ ?_
          · refine s_iconst (pc := 82) hF dX0_manyBlocks_82 (0 : Int32) (by decide) ?_
            refine s_goto (pc := 83) hF 143 dX0_manyBlocks_83 rfl ?_
            exact SK.sb (gX0_manyBlocks_J143 hF ih l1 l2 l3 (0 : Int32) M14 z15) ⟨rfl, ⟨rfl, ⟨rfl, trivial⟩⟩⟩
          · refine s_aload (pc := 67) hF dX0_manyBlocks_67 rfl ?_
            refine s_getr (pc := 69) hF (fl_X0_180 hF) dX0_manyBlocks_69 (fun v16 => ?_)
            refine s_getr (pc := 72) hF (fl_X0_244 hF) dX0_manyBlocks_72 (fun v17 => ?_)
            refine s_ifnonnull (pc := 75) hF 82 dX0_manyBlocks_75 rfl ?_ ?_
            · refine s_iconst (pc := 82) hF dX0_manyBlocks_82 (0 : Int32) (by decide) ?_
              refine s_goto (pc := 83) hF 143 dX0_manyBlocks_83 rfl ?_
              exact SK.sb (gX0_manyBlocks_J143 hF ih l1 l2 l3 (0 : Int32) M14 z15) ⟨rfl, ⟨rfl, ⟨rfl, trivial⟩⟩⟩
            · refine s_iconst (pc := 78) hF dX0_manyBlocks_78 (1 : Int32) (by decide) ?_
              refine s_goto (pc := 79) hF 143 dX0_manyBlocks_79 rfl ?_
              exact SK.sb (gX0_manyBlocks_J143 hF ih l1 l2 l3 (1 : Int32) M14 z15) ⟨rfl, ⟨rfl, ⟨rfl, trivial⟩⟩⟩
      · refine s_aload (pc := 37) hF dX0_manyBlocks_37 rfl ?_
        refine s_getr (pc := 39) hF (fl_X0_237 hF) dX0_manyBlocks_39 (fun v18 => ?_)
        refine s_ifnull (pc := 42) hF 49 dX0_manyBlocks_42 rfl ?_ ?_
        · refine s_iconst (pc := 49) hF dX0_manyBlocks_49 (0 : Int32) (by decide) ?_
          refine s_goto (pc := 50) hF 143 dX0_manyBlocks_50 rfl ?_
          exact SK.sb (gX0_manyBlocks_J143 hF ih l1 l2 l3 (0 : Int32) M5 z6) ⟨rfl, ⟨rfl, ⟨rfl, trivial⟩⟩⟩
        · refine s_iconst (pc := 45) hF dX0_manyBlocks_45 (1 : Int32) (by decide) ?_
          refine s_goto (pc := 46) hF 143 dX0_manyBlocks_46 rfl ?_
          exact SK.sb (gX0_manyBlocks_J143 hF ih l1 l2 l3 (1 : Int32) M5 z6) ⟨rfl, ⟨rfl, ⟨rfl, trivial⟩⟩⟩
def fX0_manyBlocks (a0 : Option Nat) (a1 : Int32) (M : Mp) (z : Nat) : Rs Int32 := (gr M a0 [0] 0).bind fun v1 =>
if ckc M v1 [11] = true then
  (cb (fJ2_iterator v1 M z) z fun v2 M3 z4 =>
fX0_manyBlocks_L12 FU a1 (0 : Int32) v2 M3 z4)
else none
theorem gX0_manyBlocks {G : Cx} {F : Option Value × Mp × Nat} (hF : FX G cX0_manyBlocks 6 RX0 (Option.some Jvm.ClassFile.FieldType.int) "manyBlocks" 3 61) (a0 : Option Nat) (a1 : Int32) (M : Mp) (z : Nat) : SK G F 6 eI 0 [some (va_rf a0), some (.int a1), none, none, none, none] [] M z (fX0_manyBlocks a0 a1 M z) := by
  unfold fX0_manyBlocks
  refine s_iconst (pc := 0) hF dX0_manyBlocks_0 (0 : Int32) (by decide) ?_
  refine s_istore_n (L9 := [some (va_rf a0), some (.int a1), some (.int (0 : Int32)), none, none, none]) (pc := 1) hF dX0_manyBlocks_1 rfl (Nat.le_of_ble_eq_true rfl) rfl ?_
  refine s_aload_n (pc := 2) hF dX0_manyBlocks_2 rfl rfl ?_
  refine s_getr (pc := 3) hF (fl_X0_14 hF) dX0_manyBlocks_3 (fun v1 => ?_)
  refine s_callF (pc := 6) (As := []) (st := []) (stf := fun r9 => va_rf r9 :: []) (x := ⟨"java/util/List", "iterator", "()Ljava/util/Iterator;"⟩) hF (mJ2_iterator v1) cw_J2_iterator rfl ⟨by decide, by decide⟩ q270 q275 n_q272 n_q271 n_q276 (List.forall_mem_cons.mpr ⟨⟨(RJ2, TJ2, 3), rfl, q273, n_q274, n_q155⟩, fun _ h9 => absurd h9 List.not_mem_nil⟩) rfl ⟨Nat.le_of_ble_eq_true rfl, Nat.le_of_ble_eq_true rfl⟩ ⟨trivial, Nat.le_of_ble_eq_true rfl⟩ dX0_manyBlocks_6 rfl (fun _ => rfl) (fun v2 M3 z4 => ?_)
  refine s_astore_n (L9 := [some (va_rf a0), some (.int a1), some (.int (0 : Int32)), some (va_rf v2), none, none]) (pc := 11) hF dX0_manyBlocks_11 rfl (Nat.le_of_ble_eq_true rfl) rfl ?_
  exact SK.sb (gX0_manyBlocks_L12 hF FU a1 (0 : Int32) v2 M3 z4) ⟨rfl, ⟨rfl, ⟨rfl, trivial⟩⟩⟩
theorem mX0_manyBlocks (a0 : Option Nat) (a1 : Int32) : MT yX0_manyBlocks cX0_manyBlocks 6 (Option.some Jvm.ClassFile.FieldType.int) 3 61 eI [va_rf a0, .int a1] (fX0_manyBlocks a0 a1) :=
  MT.of (L0 := [some (va_rf a0), some (.int a1), none, none, none, none]) (by decide) ⟨ct _, ⟨rfl, trivial⟩⟩ (Nat.le_of_ble_eq_true rfl) rfl (fun _ _ hF M z => gX0_manyBlocks hF a0 a1 M z)

def fX0_manyBroken_J44 (r12 : Int32 → Option Nat → Mp → Nat → Rs Int32) (l2 : Option Nat) (s0 : Int32) (s1 : Int32) (M : Mp) (z : Nat) : Rs Int32 := r12 (s0 + s1) l2 M z

theorem gX0_manyBroken_J44 {G : Cx} {F : Option Value × Mp × Nat}  {r12 : Int32 → Option Nat → Mp → Nat → Rs Int32}(hF : FX G cX0_manyBroken 4 RX0 (Option.some Jvm.ClassFile.FieldType.int) "manyBroken" 5 104) (hr12 : ∀ l1 l2 M z, SK G F 4 eI 12 [none, some (.int l1), some (va_rf l2), none] [] M z (r12 l1 l2 M z)) (l2 : Option Nat) (s0 : Int32) (s1 : Int32) (M : Mp) (z : Nat) : SK G F 4 eI 44 [none, none, some (va_rf l2), none] [.int s1, .int s0] M z (fX0_manyBroken_J44 r12 l2 s0 s1 M z) := by
  unfold fX0_manyBroken_J44
  refine s_iadd (pc := 44) hF dX0_manyBroken_44 ?_
  refine s_istore_n (L9 := [none, some (.int (s0 + s1)), some (va_rf l2), none]) (pc := 45) hF dX0_manyBroken_45 rfl (Nat.le_of_ble_eq_true rfl) rfl ?_
  refine s_goto (pc := 46) hF 12 dX0_manyBroken_46 rfl ?_
  exact SK.sb (hr12 (s0 + s1) l2 M z) ⟨rfl, ⟨rfl, trivial⟩⟩

def fX0_manyBroken_L12 : Nat → Int32 → Option Nat → Mp → Nat → Rs Int32
  | 0, _, _, _, _ => none
  | fu + 1, l1, l2, M, z => if ckc M l2 [12] = true then
  (cb (fJ3_hasNext l2 M z) z fun v1 M2 z3 =>
if v1 = 0 then
  (some (l1, M2, 0, 0))
else
  (if ckc M2 l2 [12] = true then
  (cb (fJ3_next l2 M2 z3) z3 fun v4 M5 z6 =>
if cst M5 v4 [5] = true then
  (if ckc M5 v4 [5] = true then
  (cb (fX5_isBroken v4 M5 z6) z6 fun v7 M8 z9 =>
if v7 = 0 then
  (fX0_manyBroken_J44 (fX0_manyBroken_L12 fu) l2 l1 (0 : Int32) M8 z9)
else
  (fX0_manyBroken_J44 (fX0_manyBroken_L12 fu) l2 l1 (1 : Int32) M8 z9))
else none)
else none)
else none))
else none

theorem gX0_manyBroken_L12 {G : Cx} {F : Option Value × Mp × Nat} (hF : FX G cX0_manyBroken 4 RX0 (Option.some Jvm.ClassFile.FieldType.int) "manyBroken" 5 104) : ∀ (fu : Nat) (l1 : Int32) (l2 : Option Nat) (M : Mp) (z : Nat), SK G F 4 eI 12 [none, some (.int l1), some (va_rf l2), none] [] M z (fX0_manyBroken_L12 fu l1 l2 M z) := by
  intro fu
  induction fu with
  | zero => intros; exact SK.fail
  | succ fu ih =>
    intro l1 l2 M z
    rw [fX0_manyBroken_L12]
    refine s_aload_n (pc := 12) hF dX0_manyBroken_12 rfl rfl ?_
    refine s_callF (pc := 13) (As := []) (st := []) (stf := fun r9 => .int r9 :: []) (x := ⟨"java/util/Iterator", "hasNext", "()Z"⟩) hF (mJ3_hasNext l2) cw_J3_hasNext rfl ⟨by decide, by decide⟩ q298 q325 n_q300 n_q299 n_q326 (List.forall_mem_cons.mpr ⟨⟨(RJ3, TJ3, 4), rfl, q323, n_q324, n_q322⟩, fun _ h9 => absurd h9 List.not_mem_nil⟩) rfl ⟨Nat.le_of_ble_eq_true rfl, Nat.le_of_ble_eq_true rfl⟩ ⟨trivial, Nat.le_of_ble_eq_true rfl⟩ dX0_manyBroken_13 rfl (fun _ => rfl) (fun v1 M2 z3 => ?_)
    refine s_if_eq (pc := 18) hF 49 dX0_manyBroken_18 rfl ?_ ?_
    · refine s_iload_n (pc := 49) hF dX0_manyBroken_49 rfl rfl ?_
      exact s_iret (pc := 50) hF dX0_manyBroken_50
    · refine s_aload_n (pc := 21) hF dX0_manyBroken_21 rfl rfl ?_
      refine s_callF (pc := 22) (As := []) (st := []) (stf := fun r9 => va_rf r9 :: []) (x := ⟨"java/util/Iterator", "next", "()Ljava/lang/Object;"⟩) hF (mJ3_next l2) cw_J3_next rfl ⟨by decide, by decide⟩ q381 q372 n_q331 n_q330 n_q373 (List.forall_mem_cons.mpr ⟨⟨(RJ3, TJ3, 4), rfl, q370, n_q371, n_q322⟩, fun _ h9 => absurd h9 List.not_mem_nil⟩) rfl ⟨Nat.le_of_ble_eq_true rfl, Nat.le_of_ble_eq_true rfl⟩ ⟨trivial, Nat.le_of_ble_eq_true rfl⟩ dX0_manyBroken_22 rfl (fun _ => rfl) (fun v4 M5 z6 => ?_)
      refine s_cast (pc := 27) hF q685 (List.forall_mem_cons.mpr ⟨⟨(RX5, TX5, 8), rfl, Or.inl rfl⟩, fun _ h9 => absurd h9 List.not_mem_nil⟩) dX0_manyBroken_27 ?_
      refine s_astore_n (L9 := [none, some (.int l1), some (va_rf l2), some (va_rf v4)]) (pc := 30) hF dX0_manyBroken_30 rfl (Nat.le_of_ble_eq_true rfl) rfl ?_
      refine s_iload_n (pc := 31) hF dX0_manyBroken_31 rfl rfl ?_
      refine s_aload_n (pc := 32) hF dX0_manyBroken_32 rfl rfl ?_
      refine s_callV (pc := 33) (As := []) (st := [.int l1]) (stf := fun r9 => .int r9 :: [.int l1]) hF (mX5_isBroken v4) cw_X5_isBroken q862 q863 (List.forall_mem_cons.mpr ⟨⟨(RX5, TX5, 8), rfl, q864⟩, fun _ h9 => absurd h9 List.not_mem_nil⟩) rfl ⟨Nat.le_of_ble_eq_true rfl, Nat.le_of_ble_eq_true rfl⟩ ⟨⟨rfl, trivial⟩, Nat.le_of_ble_eq_true rfl⟩ dX0_manyBroken_33 rfl (fun _ => rfl) (fun v7 M8 z9 => ?_)
      refine s_if_eq (pc := 36) hF 43 dX0_manyBroken_36 rfl ?_ ?_
      · refine s_iconst (pc := 43) hF dX0_manyBroken_43 (0 : Int32) (by decide) ?_
        exact SK.sb (gX0_manyBroken_J44 hF ih l2 l1 (0 : Int32) M8 z9) ⟨rfl, trivial⟩
      · refine s_iconst (pc := 39) hF dX0_manyBroken_39 (1 : Int32) (by decide) ?_
        refine s_goto (pc := 40) hF 44 dX0_manyBroken_40 rfl ?_
        exact SK.sb (gX0_manyBroken_J44 hF ih l2 l1 (1 : Int32) M8 z9) ⟨rfl, trivial⟩
def fX0_manyBroken (a0 : Option Nat) (M : Mp) (z : Nat) : Rs Int32 := (gr M a0 [0] 3).bind fun v1 =>
if ckc M v1 [11] = true then
  (cb (fJ2_iterator v1 M z) z fun v2 M3 z4 =>
fX0_manyBroken_L12 FU (0 : Int32) v2 M3 z4)
else none
theorem gX0_manyBroken {G : Cx} {F : Option Value × Mp × Nat} (hF : FX G cX0_manyBroken 4 RX0 (Option.some Jvm.ClassFile.FieldType.int) "manyBroken" 5 104) (a0 : Option Nat) (M : Mp) (z : Nat) : SK G F 4 eI 0 [some (va_rf a0), none, none, none] [] M z (fX0_manyBroken a0 M z) := by
  unfold fX0_manyBroken
  refine s_iconst (pc := 0) hF dX0_manyBroken_0 (0 : Int32) (by decide) ?_
  refine s_istore_n (L9 := [some (va_rf a0), some (.int (0 : Int32)), none, none]) (pc := 1) hF dX0_manyBroken_1 rfl (Nat.le_of_ble_eq_true rfl) rfl ?_
  refine s_aload_n (pc := 2) hF dX0_manyBroken_2 rfl rfl ?_
  refine s_getr (pc := 3) hF (fl_X0_21 hF) dX0_manyBroken_3 (fun v1 => ?_)
  refine s_callF (pc := 6) (As := []) (st := []) (stf := fun r9 => va_rf r9 :: []) (x := ⟨"java/util/List", "iterator", "()Ljava/util/Iterator;"⟩) hF (mJ2_iterator v1) cw_J2_iterator rfl ⟨by decide, by decide⟩ q270 q275 n_q272 n_q271 n_q276 (List.forall_mem_cons.mpr ⟨⟨(RJ2, TJ2, 3), rfl, q273, n_q274, n_q155⟩, fun _ h9 => absurd h9 List.not_mem_nil⟩) rfl ⟨Nat.le_of_ble_eq_true rfl, Nat.le_of_ble_eq_true rfl⟩ ⟨trivial, Nat.le_of_ble_eq_true rfl⟩ dX0_manyBroken_6 rfl (fun _ => rfl) (fun v2 M3 z4 => ?_)
  refine s_astore_n (L9 := [some (va_rf a0), some (.int (0 : Int32)), some (va_rf v2), none]) (pc := 11) hF dX0_manyBroken_11 rfl (Nat.le_of_ble_eq_true rfl) rfl ?_
  exact SK.sb (gX0_manyBroken_L12 hF FU (0 : Int32) v2 M3 z4) ⟨rfl, ⟨rfl, trivial⟩⟩
theorem mX0_manyBroken (a0 : Option Nat) : MT yX0_manyBroken cX0_manyBroken 4 (Option.some Jvm.ClassFile.FieldType.int) 5 104 eI [va_rf a0] (fX0_manyBroken a0) :=
  MT.of (L0 := [some (va_rf a0), none, none, none]) (by decide) ⟨ct _, trivial⟩ (Nat.le_of_ble_eq_true rfl) rfl (fun _ _ hF M z => gX0_manyBroken hF a0 M z)

theorem cw_X0_manyOf : CWm yX0_manyOf cX0_manyOf 5 (Option.some Jvm.ClassFile.FieldType.int) 1 := ⟨q1023, q59, by decide +kernel, by decide +kernel, by decide +kernel⟩
theorem cw_X0_manyBlocks : CWm yX0_manyBlocks cX0_manyBlocks 6 (Option.some Jvm.ClassFile.FieldType.int) 1 := ⟨q1027, q59, by decide +kernel, by decide +kernel, by decide +kernel⟩
theorem cw_X0_manyBroken : CWm yX0_manyBroken cX0_manyBroken 4 (Option.some Jvm.ClassFile.FieldType.int) 0 := ⟨q1031, q59, by decide +kernel, by decide +kernel, by decide +kernel⟩
def fX0_many (a0 : Option Nat) (a1 : Int32) (M : Mp) (z : Nat) : Rs Int32 := if ckc M a0 [0] = true then
  (cb (fX0_knows a0 M z) z fun _ M2 z3 =>
if a1 = 0 then
  ((gr M2 a0 [0] 0).bind fun v4 =>
if ckc M2 v4 [11] = true then
  (cb (fJ2_size v4 M2 z3) z3 fun v5 M6 z7 =>
some (v5, M6, 0, 0))
else none)
else if a1 = 1 then
  ((gr M2 a0 [0] 1).bind fun v8 =>
if ckc M2 v8 [11] = true then
  (cb (fJ2_size v8 M2 z3) z3 fun v9 M10 z11 =>
some (v9, M10, 0, 0))
else none)
else if a1 = 2 then
  (if ckc M2 a0 [0] = true then
  (cb (fX0_manyOf a0 (0 : Int32) M2 z3) z3 fun v12 M13 z14 =>
some (v12, M13, 0, 0))
else none)
else if a1 = 3 then
  (if ckc M2 a0 [0] = true then
  (cb (fX0_manyOf a0 (1 : Int32) M2 z3) z3 fun v15 M16 z17 =>
some (v15, M16, 0, 0))
else none)
else if a1 = 4 then
  ((gr M2 a0 [0] 3).bind fun v18 =>
if ckc M2 v18 [11] = true then
  (cb (fJ2_size v18 M2 z3) z3 fun v19 M20 z21 =>
some (v19, M20, 0, 0))
else none)
else if a1 = 5 then
  (if ckc M2 a0 [0] = true then
  (cb (fX0_manyBlocks a0 a1 M2 z3) z3 fun v22 M23 z24 =>
some (v22, M23, 0, 0))
else none)
else if a1 = 6 then
  (if ckc M2 a0 [0] = true then
  (cb (fX0_manyBlocks a0 a1 M2 z3) z3 fun v25 M26 z27 =>
some (v25, M26, 0, 0))
else none)
else if a1 = 7 then
  ((gr M2 a0 [0] 4).bind fun v28 =>
if ckc M2 v28 [11] = true then
  (cb (fJ2_size v28 M2 z3) z3 fun v29 M30 z31 =>
some (v29, M30, 0, 0))
else none)
else if a1 = 8 then
  ((gr M2 a0 [0] 4).bind fun v32 =>
if ckc M2 v32 [11] = true then
  (cb (fJ2_size v32 M2 z3) z3 fun v33 M34 z35 =>
(gi M34 a0 [0] 5).bind fun v36 =>
some ((v33 - v36), M34, 0, 0))
else none)
else if a1 = 9 then
  (if ckc M2 a0 [0] = true then
  (cb (fX0_manyBroken a0 M2 z3) z3 fun v37 M38 z39 =>
some (v37, M38, 0, 0))
else none)
else if a1 = 10 then
  (if ckc M2 a0 [0] = true then
  (cb (fX0_manyBlocks a0 a1 M2 z3) z3 fun v40 M41 z42 =>
some (v40, M41, 0, 0))
else none)
else if a1 = 11 then
  (if ckc M2 a0 [0] = true then
  (cb (fX0_manyBlocks a0 a1 M2 z3) z3 fun v43 M44 z45 =>
some (v43, M44, 0, 0))
else none)
else 
  (some ((-2 : Int32), M2, 0, 0)))
else none
theorem gX0_many {G : Cx} {F : Option Value × Mp × Nat} (hF : FX G cX0_many 2 RX0 (Option.some Jvm.ClassFile.FieldType.int) "many" 14 374) (a0 : Option Nat) (a1 : Int32) (M : Mp) (z : Nat) : SK G F 2 eI 0 [some (va_rf a0), some (.int a1)] [] M z (fX0_many a0 a1 M z) := by
  unfold fX0_many
  refine s_aload_n (pc := 0) hF dX0_many_0 rfl rfl ?_
  refine s_callV (pc := 1) (As := []) (st := []) (stf := fun r9 => []) hF (mX0_knows a0) cw_X0_knows q671 q673 (List.forall_mem_cons.mpr ⟨⟨(RX0, TX0, 6), rfl, qs8⟩, fun _ h9 => absurd h9 List.not_mem_nil⟩) rfl ⟨Nat.le_of_ble_eq_true rfl, Nat.le_of_ble_eq_true rfl⟩ ⟨trivial, Nat.le_of_ble_eq_true rfl⟩ dX0_many_1 rfl (fun _ => rfl) (fun v1 M2 z3 => ?_)
  refine s_iload_n (pc := 4) hF dX0_many_4 rfl rfl ?_
  refine s_case (v := 0) (pc := 5) hF 68 dX0_many_5 (by decide) rfl rfl ?_ (fun h9_0 => ?_)
  · refine s_aload_n (pc := 68) hF dX0_many_68 rfl rfl ?_
    refine s_getr (pc := 69) hF (fl_X0_14 hF) dX0_many_69 (fun v4 => ?_)
    refine s_callF (pc := 72) (As := []) (st := []) (stf := fun r9 => .int r9 :: []) (x := ⟨"java/util/List", "size", "()I"⟩) hF (mJ2_size v4) cw_J2_size rfl ⟨by decide, by decide⟩ q152 q158 n_q154 n_q153 n_q159 (List.forall_mem_cons.mpr ⟨⟨(RJ2, TJ2, 3), rfl, q156, n_q157, n_q155⟩, fun _ h9 => absurd h9 List.not_mem_nil⟩) rfl ⟨Nat.le_of_ble_eq_true rfl, Nat.le_of_ble_eq_true rfl⟩ ⟨trivial, Nat.le_of_ble_eq_true rfl⟩ dX0_many_72 rfl (fun _ => rfl) (fun v5 M6 z7 => ?_)
    exact s_iret (pc := 77) hF dX0_many_77
  refine s_case (v := 1) (pc := 5) hF 78 dX0_many_5 (by decide) rfl rfl ?_ (fun h9_1 => ?_)
  · refine s_aload_n (pc := 78) hF dX0_many_78 rfl rfl ?_
    refine s_getr (pc := 79) hF (fl_X0_18 hF) dX0_many_79 (fun v8 => ?_)
    refine s_callF (pc := 82) (As := []) (st := []) (stf := fun r9 => .int r9 :: []) (x := ⟨"java/util/List", "size", "()I"⟩) hF (mJ2_size v8) cw_J2_size rfl ⟨by decide, by decide⟩ q152 q158 n_q154 n_q153 n_q159 (List.forall_mem_cons.mpr ⟨⟨(RJ2, TJ2, 3), rfl, q156, n_q157, n_q155⟩, fun _ h9 => absurd h9 List.not_mem_nil⟩) rfl ⟨Nat.le_of_ble_eq_true rfl, Nat.le_of_ble_eq_true rfl⟩ ⟨trivial, Nat.le_of_ble_eq_true rfl⟩ dX0_many_82 rfl (fun _ => rfl) (fun v9 M10 z11 => ?_)
    exact s_iret (pc := 87) hF dX0_many_87
  refine s_case (v := 2) (pc := 5) hF 88 dX0_many_5 (by decide) rfl rfl ?_ (fun h9_2 => ?_)
  · refine s_aload_n (pc := 88) hF dX0_many_88 rfl rfl ?_
    refine s_iconst (pc := 89) hF dX0_many_89 (0 : Int32) (by decide) ?_
    refine s_callV (pc := 90) (As := [.int (0 : Int32)]) (st := []) (stf := fun r9 => .int r9 :: []) hF (mX0_manyOf a0 (0 : Int32)) cw_X0_manyOf q1020 q1022 (List.forall_mem_cons.mpr ⟨⟨(RX0, TX0, 6), rfl, qs24⟩, fun _ h9 => absurd h9 List.not_mem_nil⟩) rfl ⟨Nat.le_of_ble_eq_true rfl, Nat.le_of_ble_eq_true rfl⟩ ⟨trivial, Nat.le_of_ble_eq_true rfl⟩ dX0_many_90 rfl (fun _ => rfl) (fun v12 M13 z14 => ?_)
    exact s_iret (pc := 93) hF dX0_many_93
  refine s_case (v := 3) (pc := 5) hF 94 dX0_many_5 (by decide) rfl rfl ?_ (fun h9_3 => ?_)
  · refine s_aload_n (pc := 94) hF dX0_many_94 rfl rfl ?_
    refine s_iconst (pc := 95) hF dX0_many_95 (1 : Int32) (by decide) ?_
    refine s_callV (pc := 96) (As := [.int (1 : Int32)]) (st := []) (stf := fun r9 => .int r9 :: []) hF (mX0_manyOf a0 (1 : Int32)) cw_X0_manyOf q1020 q1022 (List.forall_mem_cons.mpr ⟨⟨(RX0, TX0, 6), rfl, qs24⟩, fun _ h9 => absurd h9 List.not_mem_nil⟩) rfl ⟨Nat.le_of_ble_eq_true rfl, Nat.le_of_ble_eq_true rfl⟩ ⟨trivial, Nat.le_of_ble_eq_true rfl⟩ dX0_many_96 rfl (fun _ => rfl) (fun v15 M16 z17 => ?_)
    exact s_iret (pc := 99) hF dX0_many_99
  refine s_case (v := 4) (pc := 5) hF 100 dX0_many_5 (by decide) rfl rfl ?_ (fun h9_4 => ?_)
  · refine s_aload_n (pc := 100) hF dX0_many_100 rfl rfl ?_
    refine s_getr (pc := 101) hF (fl_X0_21 hF) dX0_many_101 (fun v18 => ?_)
    refine s_callF (pc := 104) (As := []) (st := []) (stf := fun r9 => .int r9 :: []) (x := ⟨"java/util/List", "size", "()I"⟩) hF (mJ2_size v18) cw_J2_size rfl ⟨by decide, by decide⟩ q152 q158 n_q154 n_q153 n_q159 (List.forall_mem_cons.mpr ⟨⟨(RJ2, TJ2, 3), rfl, q156, n_q157, n_q155⟩, fun _ h9 => absurd h9 List.not_mem_nil⟩) rfl ⟨Nat.le_of_ble_eq_true rfl, Nat.le_of_ble_eq_true rfl⟩ ⟨trivial, Nat.le_of_ble_eq_true rfl⟩ dX0_many_104 rfl (fun _ => rfl) (fun v19 M20 z21 => ?_)
    exact s_iret (pc := 109) hF dX0_many_109
  refine s_case (v := 5) (pc := 5) hF 110 dX0_many_5 (by decide) rfl rfl ?_ (fun h9_5 => ?_)
  · refine s_aload_n (pc := 110) hF dX0_many_110 rfl rfl ?_
    refine s_iload_n (pc := 111) hF dX0_many_111 rfl rfl ?_
    refine s_callV (pc := 112) (As := [.int a1]) (st := []) (stf := fun r9 => .int r9 :: []) hF (mX0_manyBlocks a0 a1) cw_X0_manyBlocks q1024 q1026 (List.forall_mem_cons.mpr ⟨⟨(RX0, TX0, 6), rfl, qs25⟩, fun _ h9 => absurd h9 List.not_mem_nil⟩) rfl ⟨Nat.le_of_ble_eq_true rfl, Nat.le_of_ble_eq_true rfl⟩ ⟨trivial, Nat.le_of_ble_eq_true rfl⟩ dX0_many_112 rfl (fun _ => rfl) (fun v22 M23 z24 => ?_)
    exact s_iret (pc := 115) hF dX0_many_115
  refine s_case (v := 6) (pc := 5) hF 110 dX0_many_5 (by decide) rfl rfl ?_ (fun h9_6 => ?_)
  · refine s_aload_n (pc := 110) hF dX0_many_110 rfl rfl ?_
    refine s_iload_n (pc := 111) hF dX0_many_111 rfl rfl ?_
    refine s_callV (pc := 112) (As := [.int a1]) (st := []) (stf := fun r9 => .int r9 :: []) hF (mX0_manyBlocks a0 a1) cw_X0_manyBlocks q1024 q1026 (List.forall_mem_cons.mpr ⟨⟨(RX0, TX0, 6), rfl, qs25⟩, fun _ h9 => absurd h9 List.not_mem_nil⟩) rfl ⟨Nat.le_of_ble_eq_true rfl, Nat.le_of_ble_eq_true rfl⟩ ⟨trivial, Nat.le_of_ble_eq_true rfl⟩ dX0_many_112 rfl (fun _ => rfl) (fun v25 M26 z27 => ?_)
    exact s_iret (pc := 115) hF dX0_many_115
  refine s_case (v := 7) (pc := 5) hF 116 dX0_many_5 (by decide) rfl rfl ?_ (fun h9_7 => ?_)
  · refine s_aload_n (pc := 116) hF dX0_many_116 rfl rfl ?_
    refine s_getr (pc := 117) hF (fl_X0_24 hF) dX0_many_117 (fun v28 => ?_)
    refine s_callF (pc := 120) (As := []) (st := []) (stf := fun r9 => .int r9 :: []) (x := ⟨"java/util/List", "size", "()I"⟩) hF (mJ2_size v28) cw_J2_size rfl ⟨by decide, by decide⟩ q152 q158 n_q154 n_q153 n_q159 (List.forall_mem_cons.mpr ⟨⟨(RJ2, TJ2, 3), rfl, q156, n_q157, n_q155⟩, fun _ h9 => absurd h9 List.not_mem_nil⟩) rfl ⟨Nat.le_of_ble_eq_true rfl, Nat.le_of_ble_eq_true rfl⟩ ⟨trivial, Nat.le_of_ble_eq_true rfl⟩ dX0_many_120 rfl (fun _ => rfl) (fun v29 M30 z31 => ?_)
    exact s_iret (pc := 125) hF dX0_many_125
  refine s_case (v := 8) (pc := 5) hF 126 dX0_many_5 (by decide) rfl rfl ?_ (fun h9_8 => ?_)
  · refine s_aload_n (pc := 126) hF dX0_many_126 rfl rfl ?_
    refine s_getr (pc := 127) hF (fl_X0_24 hF) dX0_many_127 (fun v32 => ?_)
    refine s_callF (pc := 130) (As := []) (st := []) (stf := fun r9 => .int r9 :: []) (x := ⟨"java/util/List", "size", "()I"⟩) hF (mJ2_size v32) cw_J2_size rfl ⟨by decide, by decide⟩ q152 q158 n_q154 n_q153 n_q159 (List.forall_mem_cons.mpr ⟨⟨(RJ2, TJ2, 3), rfl, q156, n_q157, n_q155⟩, fun _ h9 => absurd h9 List.not_mem_nil⟩) rfl ⟨Nat.le_of_ble_eq_true rfl, Nat.le_of_ble_eq_true rfl⟩ ⟨trivial, Nat.le_of_ble_eq_true rfl⟩ dX0_many_130 rfl (fun _ => rfl) (fun v33 M34 z35 => ?_)
    refine s_aload_n (pc := 135) hF dX0_many_135 rfl rfl ?_
    refine s_geti (pc := 136) hF (fl_X0_213 hF) dX0_many_136 (fun v36 => ?_)
    refine s_isub (pc := 139) hF dX0_many_139 ?_
    exact s_iret (pc := 140) hF dX0_many_140
  refine s_case (v := 9) (pc := 5) hF 141 dX0_many_5 (by decide) rfl rfl ?_ (fun h9_9 => ?_)
  · refine s_aload_n (pc := 141) hF dX0_many_141 rfl rfl ?_
    refine s_callV (pc := 142) (As := []) (st := []) (stf := fun r9 => .int r9 :: []) hF (mX0_manyBroken a0) cw_X0_manyBroken q1028 q1030 (List.forall_mem_cons.mpr ⟨⟨(RX0, TX0, 6), rfl, qs26⟩, fun _ h9 => absurd h9 List.not_mem_nil⟩) rfl ⟨Nat.le_of_ble_eq_true rfl, Nat.le_of_ble_eq_true rfl⟩ ⟨trivial, Nat.le_of_ble_eq_true rfl⟩ dX0_many_142 rfl (fun _ => rfl) (fun v37 M38 z39 => ?_)
    exact s_iret (pc := 145) hF dX0_many_145
  refine s_case (v := 10) (pc := 5) hF 110 dX0_many_5 (by decide) rfl rfl ?_ (fun h9_10 => ?_)
  · refine s_aload_n (pc := 110) hF dX0_many_110 rfl rfl ?_
    refine s_iload_n (pc := 111) hF dX0_many_111 rfl rfl ?_
    refine s_callV (pc := 112) (As := [.int a1]) (st := []) (stf := fun r9 => .int r9 :: []) hF (mX0_manyBlocks a0 a1) cw_X0_manyBlocks q1024 q1026 (List.forall_mem_cons.mpr ⟨⟨(RX0, TX0, 6), rfl, qs25⟩, fun _ h9 => absurd h9 List.not_mem_nil⟩) rfl ⟨Nat.le_of_ble_eq_true rfl, Nat.le_of_ble_eq_true rfl⟩ ⟨trivial, Nat.le_of_ble_eq_true rfl⟩ dX0_many_112 rfl (fun _ => rfl) (fun v40 M41 z42 => ?_)
    exact s_iret (pc := 115) hF dX0_many_115
  refine s_case (v := 11) (pc := 5) hF 110 dX0_many_5 (by decide) rfl rfl ?_ (fun h9_11 => ?_)
  · refine s_aload_n (pc := 110) hF dX0_many_110 rfl rfl ?_
    refine s_iload_n (pc := 111) hF dX0_many_111 rfl rfl ?_
    refine s_callV (pc := 112) (As := [.int a1]) (st := []) (stf := fun r9 => .int r9 :: []) hF (mX0_manyBlocks a0 a1) cw_X0_manyBlocks q1024 q1026 (List.forall_mem_cons.mpr ⟨⟨(RX0, TX0, 6), rfl, qs25⟩, fun _ h9 => absurd h9 List.not_mem_nil⟩) rfl ⟨Nat.le_of_ble_eq_true rfl, Nat.le_of_ble_eq_true rfl⟩ ⟨trivial, Nat.le_of_ble_eq_true rfl⟩ dX0_many_112 rfl (fun _ => rfl) (fun v43 M44 z45 => ?_)
    exact s_iret (pc := 115) hF dX0_many_115
  refine s_dflt (pc := 5) hF 146 dX0_many_5 (by
    have := lv_neT (a := 0) h9_0 rfl
    have := lv_neT (a := 1) h9_1 rfl
    have := lv_neT (a := 2) h9_2 rfl
    have := lv_neT (a := 3) h9_3 rfl
    have := lv_neT (a := 4) h9_4 rfl
    have := lv_neT (a := 5) h9_5 rfl
    have := lv_neT (a := 6) h9_6 rfl
    have := lv_neT (a := 7) h9_7 rfl
    have := lv_neT (a := 8) h9_8 rfl
    have := lv_neT (a := 9) h9_9 rfl
    have := lv_neT (a := 10) h9_10 rfl
    have := lv_neT (a := 11) h9_11 rfl
    omega) rfl ?_
  refine s_bipush (pc := 146) hF dX0_many_146 (-2 : Int32) (by decide) ?_
  exact s_iret (pc := 148) hF dX0_many_148
theorem mX0_many (a0 : Option Nat) (a1 : Int32) : MT yX0_many cX0_many 2 (Option.some Jvm.ClassFile.FieldType.int) 14 374 eI [va_rf a0, .int a1] (fX0_many a0 a1) :=
  MT.of (L0 := [some (va_rf a0), some (.int a1)]) (by decide) ⟨ct _, ⟨rfl, trivial⟩⟩ (Nat.le_of_ble_eq_true rfl) rfl (fun _ _ hF M z => gX0_many hF a0 a1 M z)

def fX10_next (a0 : Option Nat) (M : Mp) (z : Nat) : Rs (Option Nat) := if ckc M a0 [10] = true then
  (cb (fX10_next_2 a0 M z) z fun v1 M2 z3 =>
some (v1, M2, 0, 0))
else none
theorem gX10_next {G : Cx} {F : Option Value × Mp × Nat} (hF : FX G cX10_next 1 RX10 (Option.some (Jvm.ClassFile.FieldType.object "java/lang/Object")) "next" 4 85) (a0 : Option Nat) (M : Mp) (z : Nat) : SK G F 1 eR 0 [some (va_rf a0)] [] M z (fX10_next a0 M z) := by
  unfold fX10_next
  refine s_aload_n (pc := 0) hF dX10_next_0 rfl rfl ?_
  refine s_callV (pc := 1) (As := []) (st := []) (stf := fun r9 => va_rf r9 :: []) hF (mX10_next_2 a0) cw_X10_next_2 q346 q347 (List.forall_mem_cons.mpr ⟨⟨(RX10, TX10, 4), rfl, q348⟩, fun _ h9 => absurd h9 List.not_mem_nil⟩) rfl ⟨Nat.le_of_ble_eq_true rfl, Nat.le_of_ble_eq_true rfl⟩ ⟨trivial, Nat.le_of_ble_eq_true rfl⟩ dX10_next_1 rfl (fun _ => rfl) (fun v1 M2 z3 => ?_)
  exact s_aret (pc := 4) hF rfl (Or.inl ⟨_, rfl⟩) dX10_next_4
theorem mX10_next (a0 : Option Nat) : MT yX10_next cX10_next 1 (Option.some (Jvm.ClassFile.FieldType.object "java/lang/Object")) 4 85 eR [va_rf a0] (fX10_next a0) :=
  MT.of (L0 := [some (va_rf a0)]) (by decide) ⟨ct _, trivial⟩ (Nat.le_of_ble_eq_true rfl) rfl (fun _ _ hF M z => gX10_next hF a0 M z)
