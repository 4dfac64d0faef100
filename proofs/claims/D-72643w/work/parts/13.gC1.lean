set_option maxRecDepth 100000
theorem pl_X0_14 {G : Cx} {nL fr lc : Nat} {cc : ByteArray} {ret : Option FieldType} (hF : FX G cc nL RX0 ret "<init>" fr lc) (x9 : Option Nat) : ∀ c ∈ [0], PF G RX0 "<init>" 14 c 0 (va_rf x9) := by
  obtain ⟨⟨p, l, e, R, s, m, args, below, meth, c0⟩, A, D, dA, mi⟩ := G
  obtain ⟨hx, hb, hml, hown, hts, hr, hlk, hK, hnm, hfr, hlc⟩ := hF
  exact List.forall_mem_cons.mpr ⟨⟨RX0, TX0, 6, "StoryColumns", tyX0 0, rfl, in_X0, Nat.le_of_ble_eq_true rfl, Or.inl ⟨(hts _ q119), Or.inr ⟨rfl, rfl, rfl⟩⟩, fun _ h => h, tyX0_ok 0 (Nat.le_of_ble_eq_true rfl), by cases x9 <;> rfl, by cases x9 <;> rfl, ap_0 hts hK⟩, fun _ h9 => absurd h9 List.not_mem_nil⟩
theorem pl_X0_18 {G : Cx} {nL fr lc : Nat} {cc : ByteArray} {ret : Option FieldType} (hF : FX G cc nL RX0 ret "<init>" fr lc) (x9 : Option Nat) : ∀ c ∈ [0], PF G RX0 "<init>" 18 c 1 (va_rf x9) := by
  obtain ⟨⟨p, l, e, R, s, m, args, below, meth, c0⟩, A, D, dA, mi⟩ := G
  obtain ⟨hx, hb, hml, hown, hts, hr, hlk, hK, hnm, hfr, hlc⟩ := hF
  exact List.forall_mem_cons.mpr ⟨⟨RX0, TX0, 6, "StoryColumns", tyX0 1, rfl, in_X0, Nat.le_of_ble_eq_true rfl, Or.inl ⟨(hts _ q122), Or.inr ⟨rfl, rfl, rfl⟩⟩, fun _ h => h, tyX0_ok 1 (Nat.le_of_ble_eq_true rfl), by cases x9 <;> rfl, by cases x9 <;> rfl, ap_0 hts hK⟩, fun _ h9 => absurd h9 List.not_mem_nil⟩
theorem pl_X0_21 {G : Cx} {nL fr lc : Nat} {cc : ByteArray} {ret : Option FieldType} (hF : FX G cc nL RX0 ret "<init>" fr lc) (x9 : Option Nat) : ∀ c ∈ [0], PF G RX0 "<init>" 21 c 3 (va_rf x9) := by
  obtain ⟨⟨p, l, e, R, s, m, args, below, meth, c0⟩, A, D, dA, mi⟩ := G
  obtain ⟨hx, hb, hml, hown, hts, hr, hlk, hK, hnm, hfr, hlc⟩ := hF
  exact List.forall_mem_cons.mpr ⟨⟨RX0, TX0, 6, "StoryColumns", tyX0 3, rfl, in_X0, Nat.le_of_ble_eq_true rfl, Or.inl ⟨(hts _ q125), Or.inr ⟨rfl, rfl, rfl⟩⟩, fun _ h => h, tyX0_ok 3 (Nat.le_of_ble_eq_true rfl), by cases x9 <;> rfl, by cases x9 <;> rfl, ap_0 hts hK⟩, fun _ h9 => absurd h9 List.not_mem_nil⟩
theorem pl_X0_24 {G : Cx} {nL fr lc : Nat} {cc : ByteArray} {ret : Option FieldType} (hF : FX G cc nL RX0 ret "<init>" fr lc) (x9 : Option Nat) : ∀ c ∈ [0], PF G RX0 "<init>" 24 c 4 (va_rf x9) := by
  obtain ⟨⟨p, l, e, R, s, m, args, below, meth, c0⟩, A, D, dA, mi⟩ := G
  obtain ⟨hx, hb, hml, hown, hts, hr, hlk, hK, hnm, hfr, hlc⟩ := hF
  exact List.forall_mem_cons.mpr ⟨⟨RX0, TX0, 6, "StoryColumns", tyX0 4, rfl, in_X0, Nat.le_of_ble_eq_true rfl, Or.inl ⟨(hts _ q126), Or.inr ⟨rfl, rfl, rfl⟩⟩, fun _ h => h, tyX0_ok 4 (Nat.le_of_ble_eq_true rfl), by cases x9 <;> rfl, by cases x9 <;> rfl, ap_0 hts hK⟩, fun _ h9 => absurd h9 List.not_mem_nil⟩
theorem cw_J2_init : CWm yJ2_init cJ2_init 2 (Option.none : Option Jvm.ClassFile.FieldType) 1 := ⟨q92, q62, by decide +kernel, by decide +kernel, by decide +kernel⟩
def fX0_init (a0 : Option Nat) (M : Mp) (z : Nat) : Rs Unit := if a0 = none then none else
  (nwo 11 3 [.int 0, .null, .int 0] M z fun M1 z2 =>
if (some z) = none then none else
  (cb (fJ2_init (some z) (24 : Int32) M1 z2) z2 fun _ M4 z5 =>
(pu M4 a0 [0] 0 (va_rf (some z))).bind fun M6 =>
nwo 11 3 [.int 0, .null, .int 0] M6 z5 fun M7 z8 =>
if (some z5) = none then none else
  (cb (fJ2_init (some z5) (12 : Int32) M7 z8) z8 fun _ M10 z11 =>
(pu M10 a0 [0] 1 (va_rf (some z5))).bind fun M12 =>
nwo 11 3 [.int 0, .null, .int 0] M12 z11 fun M13 z14 =>
if (some z11) = none then none else
  (cb (fJ2_init (some z11) (24 : Int32) M13 z14) z14 fun _ M16 z17 =>
(pu M16 a0 [0] 3 (va_rf (some z11))).bind fun M18 =>
nwo 11 3 [.int 0, .null, .int 0] M18 z17 fun M19 z20 =>
if (some z17) = none then none else
  (cb (fJ2_init (some z17) (24 : Int32) M19 z20) z20 fun _ M22 z23 =>
(pu M22 a0 [0] 4 (va_rf (some z17))).bind fun M24 =>
some ((), M24, 0, 0))))))
theorem gX0_init {G : Cx} {F : Option Value × Mp × Nat} (hF : FX G cX0_init 1 RX0 (Option.none : Option Jvm.ClassFile.FieldType) "<init>" 4 81) (a0 : Option Nat) (M : Mp) (z : Nat) : SK G F 1 eV 0 [some (va_rf a0)] [] M z (fX0_init a0 M z) := by
  unfold fX0_init
  refine s_aload_n (pc := 0) hF dX0_init_0 rfl rfl ?_
  refine s_oinit (pc := 1) hF q85 ⟨Nat.le_of_ble_eq_true rfl, Nat.le_of_ble_eq_true rfl⟩ ⟨trivial, Nat.le_of_ble_eq_true rfl⟩ dX0_init_1 ?_
  refine s_aload_n (pc := 4) hF dX0_init_4 rfl rfl ?_
  refine s_nwo (pc := 5) hF dX0_init_5 rfl in_J2 tyJ2 tyJ2_ok q88 q89 q62 (fun j hj => by rcases (show j = 0 ∨ j = 1 ∨ j = 2 by omega) with rfl | rfl | rfl <;> rfl) (fun M1 z2 => ?_)
  refine s_dup (pc := 8) hF dX0_init_8 (ct _) ?_
  refine s_bipush (pc := 9) hF dX0_init_9 (24 : Int32) (by decide) ?_
  refine s_callJ (pc := 11) (As := [.int (24 : Int32)]) (st := [va_rf (some z), va_rf a0]) (stf := fun r9 => [va_rf (some z), va_rf a0]) hF (mJ2_init (some z) (24 : Int32)) cw_J2_init q90 q91 rfl rfl ⟨Nat.le_of_ble_eq_true rfl, Nat.le_of_ble_eq_true rfl⟩ ⟨⟨ct _, ⟨ct _, trivial⟩⟩, Nat.le_of_ble_eq_true rfl⟩ dX0_init_11 rfl (fun _ => rfl) (fun v3 M4 z5 => ?_)
  refine s_put (pc := 14) hF (pl_X0_14 hF _) dX0_init_14 (fun M6 => ?_)
  refine s_aload_n (pc := 17) hF dX0_init_17 rfl rfl ?_
  refine s_nwo (pc := 18) hF dX0_init_18 rfl in_J2 tyJ2 tyJ2_ok q88 q89 q62 (fun j hj => by rcases (show j = 0 ∨ j = 1 ∨ j = 2 by omega) with rfl | rfl | rfl <;> rfl) (fun M7 z8 => ?_)
  refine s_dup (pc := 21) hF dX0_init_21 (ct _) ?_
  refine s_bipush (pc := 22) hF dX0_init_22 (12 : Int32) (by decide) ?_
  refine s_callJ (pc := 24) (As := [.int (12 : Int32)]) (st := [va_rf (some z5), va_rf a0]) (stf := fun r9 => [va_rf (some z5), va_rf a0]) hF (mJ2_init (some z5) (12 : Int32)) cw_J2_init q90 q91 rfl rfl ⟨Nat.le_of_ble_eq_true rfl, Nat.le_of_ble_eq_true rfl⟩ ⟨⟨ct _, ⟨ct _, trivial⟩⟩, Nat.le_of_ble_eq_true rfl⟩ dX0_init_24 rfl (fun _ => rfl) (fun v9 M10 z11 => ?_)
  refine s_put (pc := 27) hF (pl_X0_18 hF _) dX0_init_27 (fun M12 => ?_)
  refine s_aload_n (pc := 30) hF dX0_init_30 rfl rfl ?_
  refine s_nwo (pc := 31) hF dX0_init_31 rfl in_J2 tyJ2 tyJ2_ok q88 q89 q62 (fun j hj => by rcases (show j = 0 ∨ j = 1 ∨ j = 2 by omega) with rfl | rfl | rfl <;> rfl) (fun M13 z14 => ?_)
  refine s_dup (pc := 34) hF dX0_init_34 (ct _) ?_
  refine s_bipush (pc := 35) hF dX0_init_35 (24 : Int32) (by decide) ?_
  refine s_callJ (pc := 37) (As := [.int (24 : Int32)]) (st := [va_rf (some z11), va_rf a0]) (stf := fun r9 => [va_rf (some z11), va_rf a0]) hF (mJ2_init (some z11) (24 : Int32)) cw_J2_init q90 q91 rfl rfl ⟨Nat.le_of_ble_eq_true rfl, Nat.le_of_ble_eq_true rfl⟩ ⟨⟨ct _, ⟨ct _, trivial⟩⟩, Nat.le_of_ble_eq_true rfl⟩ dX0_init_37 rfl (fun _ => rfl) (fun v15 M16 z17 => ?_)
  refine s_put (pc := 40) hF (pl_X0_21 hF _) dX0_init_40 (fun M18 => ?_)
  refine s_aload_n (pc := 43) hF dX0_init_43 rfl rfl ?_
  refine s_nwo (pc := 44) hF dX0_init_44 rfl in_J2 tyJ2 tyJ2_ok q88 q89 q62 (fun j hj => by rcases (show j = 0 ∨ j = 1 ∨ j = 2 by omega) with rfl | rfl | rfl <;> rfl) (fun M19 z20 => ?_)
  refine s_dup (pc := 47) hF dX0_init_47 (ct _) ?_
  refine s_bipush (pc := 48) hF dX0_init_48 (24 : Int32) (by decide) ?_
  refine s_callJ (pc := 50) (As := [.int (24 : Int32)]) (st := [va_rf (some z17), va_rf a0]) (stf := fun r9 => [va_rf (some z17), va_rf a0]) hF (mJ2_init (some z17) (24 : Int32)) cw_J2_init q90 q91 rfl rfl ⟨Nat.le_of_ble_eq_true rfl, Nat.le_of_ble_eq_true rfl⟩ ⟨⟨ct _, ⟨ct _, trivial⟩⟩, Nat.le_of_ble_eq_true rfl⟩ dX0_init_50 rfl (fun _ => rfl) (fun v21 M22 z23 => ?_)
  refine s_put (pc := 53) hF (pl_X0_24 hF _) dX0_init_53 (fun M24 => ?_)
  exact s_vret (pc := 56) hF dX0_init_56
theorem mX0_init (a0 : Option Nat) : MT yX0_init cX0_init 1 (Option.none : Option Jvm.ClassFile.FieldType) 4 81 eV [va_rf a0] (fX0_init a0) :=
  MT.of (L0 := [some (va_rf a0)]) (by decide) ⟨ct _, trivial⟩ (Nat.le_of_ble_eq_true rfl) rfl (fun _ _ hF M z => gX0_init hF a0 M z)

def fX0_in (a0 : Int32) (a1 : Int32) (a2 : Int32) (M : Mp) (z : Nat) : Rs Int32 := if a0 < a1 then
  (some ((0 : Int32), M, 0, 0))
else
  (if a2 < a0 then
  (some ((0 : Int32), M, 0, 0))
else
  (some ((1 : Int32), M, 0, 0)))
theorem gX0_in {G : Cx} {F : Option Value × Mp × Nat} (hF : FX G cX0_in 3 RX0 (Option.some Jvm.ClassFile.FieldType.boolean) "in" 0 0) (a0 : Int32) (a1 : Int32) (a2 : Int32) (M : Mp) (z : Nat) : SK G F 3 eI 0 [some (.int a0), some (.int a1), some (.int a2)] [] M z (fX0_in a0 a1 a2 M z) := by
  unfold fX0_in
  refine s_iload_n (pc := 0) hF dX0_in_0 rfl rfl ?_
  refine s_iload_n (pc := 1) hF dX0_in_1 rfl rfl ?_
  refine s_icmp_lt (pc := 2) hF 14 dX0_in_2 rfl ?_ ?_
  · refine s_iconst (pc := 14) hF dX0_in_14 (0 : Int32) (by decide) ?_
    exact s_zretL (pc := 15) hF dX0_in_15 (by decide)
  · refine s_iload_n (pc := 5) hF dX0_in_5 rfl rfl ?_
    refine s_iload_n (pc := 6) hF dX0_in_6 rfl rfl ?_
    refine s_icmp_gt (pc := 7) hF 14 dX0_in_7 rfl ?_ ?_
    · refine s_iconst (pc := 14) hF dX0_in_14 (0 : Int32) (by decide) ?_
      exact s_zretL (pc := 15) hF dX0_in_15 (by decide)
    · refine s_iconst (pc := 10) hF dX0_in_10 (1 : Int32) (by decide) ?_
      refine s_goto (pc := 11) hF 15 dX0_in_11 rfl ?_
      exact s_zretL (pc := 15) hF dX0_in_15 (by decide)
theorem mX0_in (a0 : Int32) (a1 : Int32) (a2 : Int32) : MT yX0_in cX0_in 3 (Option.some Jvm.ClassFile.FieldType.boolean) 0 0 eI [.int a0, .int a1, .int a2] (fX0_in a0 a1 a2) :=
  MT.of (L0 := [some (.int a0), some (.int a1), some (.int a2)]) (by decide) ⟨rfl, ⟨rfl, ⟨rfl, trivial⟩⟩⟩ (Nat.le_of_ble_eq_true rfl) rfl (fun _ _ hF M z => gX0_in hF a0 a1 a2 M z)

theorem cw_X0_in : CWm yX0_in cX0_in 3 (Option.some Jvm.ClassFile.FieldType.boolean) 3 := ⟨q147, q59, by decide +kernel, by decide +kernel, by decide +kernel⟩
def fX0_isSpan (a0 : Int32) (a1 : Int32) (a2 : Int32) (M : Mp) (z : Nat) : Rs Int32 := cb (fX0_in a0 (0 : Int32) a2 M z) z fun v1 M2 z3 =>
if v1 = 0 then
  (some ((0 : Int32), M2, 0, 0))
else
  (cb (fX0_in a1 a0 a2 M2 z3) z3 fun v4 M5 z6 =>
if v4 = 0 then
  (some ((0 : Int32), M5, 0, 0))
else
  (some ((1 : Int32), M5, 0, 0)))
theorem gX0_isSpan {G : Cx} {F : Option Value × Mp × Nat} (hF : FX G cX0_isSpan 3 RX0 (Option.some Jvm.ClassFile.FieldType.boolean) "isSpan" 1 22) (a0 : Int32) (a1 : Int32) (a2 : Int32) (M : Mp) (z : Nat) : SK G F 3 eI 0 [some (.int a0), some (.int a1), some (.int a2)] [] M z (fX0_isSpan a0 a1 a2 M z) := by
  unfold fX0_isSpan
  refine s_iload_n (pc := 0) hF dX0_isSpan_0 rfl rfl ?_
  refine s_iconst (pc := 1) hF dX0_isSpan_1 (0 : Int32) (by decide) ?_
  refine s_iload_n (pc := 2) hF dX0_isSpan_2 rfl rfl ?_
  refine s_callS (pc := 3) (As := [.int a0, .int (0 : Int32), .int a2]) (st := []) (stf := fun r9 => .int r9 :: []) hF (mX0_in a0 (0 : Int32) a2) cw_X0_in q145 q146 rfl ⟨Nat.le_of_ble_eq_true rfl, Nat.le_of_ble_eq_true rfl⟩ ⟨trivial, Nat.le_of_ble_eq_true rfl⟩ dX0_isSpan_3 rfl (fun _ => rfl) (fun v1 M2 z3 => ?_)
  refine s_if_eq (pc := 6) hF 22 dX0_isSpan_6 rfl ?_ ?_
  · refine s_iconst (pc := 22) hF dX0_isSpan_22 (0 : Int32) (by decide) ?_
    exact s_zretL (pc := 23) hF dX0_isSpan_23 (by decide)
  · refine s_iload_n (pc := 9) hF dX0_isSpan_9 rfl rfl ?_
    refine s_iload_n (pc := 10) hF dX0_isSpan_10 rfl rfl ?_
    refine s_iload_n (pc := 11) hF dX0_isSpan_11 rfl rfl ?_
    refine s_callS (pc := 12) (As := [.int a1, .int a0, .int a2]) (st := []) (stf := fun r9 => .int r9 :: []) hF (mX0_in a1 a0 a2) cw_X0_in q145 q146 rfl ⟨Nat.le_of_ble_eq_true rfl, Nat.le_of_ble_eq_true rfl⟩ ⟨trivial, Nat.le_of_ble_eq_true rfl⟩ dX0_isSpan_12 rfl (fun _ => rfl) (fun v4 M5 z6 => ?_)
    refine s_if_eq (pc := 15) hF 22 dX0_isSpan_15 rfl ?_ ?_
    · refine s_iconst (pc := 22) hF dX0_isSpan_22 (0 : Int32) (by decide) ?_
      exact s_zretL (pc := 23) hF dX0_isSpan_23 (by decide)
    · refine s_iconst (pc := 18) hF dX0_isSpan_18 (1 : Int32) (by decide) ?_
      refine s_goto (pc := 19) hF 23 dX0_isSpan_19 rfl ?_
      exact s_zretL (pc := 23) hF dX0_isSpan_23 (by decide)
theorem mX0_isSpan (a0 : Int32) (a1 : Int32) (a2 : Int32) : MT yX0_isSpan cX0_isSpan 3 (Option.some Jvm.ClassFile.FieldType.boolean) 1 22 eI [.int a0, .int a1, .int a2] (fX0_isSpan a0 a1 a2) :=
  MT.of (L0 := [some (.int a0), some (.int a1), some (.int a2)]) (by decide) ⟨rfl, ⟨rfl, ⟨rfl, trivial⟩⟩⟩ (Nat.le_of_ble_eq_true rfl) rfl (fun _ _ hF M z => gX0_isSpan hF a0 a1 a2 M z)

theorem pl_X2_3 {G : Cx} {nL fr lc : Nat} {cc : ByteArray} {ret : Option FieldType} (hF : FX G cc nL RX2 ret "<init>" fr lc) (x9 : Option Nat) : ∀ c ∈ [2, 3], PF G RX2 "<init>" 3 c 12 (va_rf x9) := by
  obtain ⟨⟨p, l, e, R, s, m, args, below, meth, c0⟩, A, D, dA, mi⟩ := G
  obtain ⟨hx, hb, hml, hown, hts, hr, hlk, hK, hnm, hfr, hlc⟩ := hF
  exact List.forall_mem_cons.mpr ⟨⟨RX2, TX2, 13, "StoryColumns$Block", tyX2 12, rfl, in_X2, Nat.le_of_ble_eq_true rfl, Or.inl ⟨(hts _ q222), Or.inr ⟨rfl, rfl, rfl⟩⟩, fun _ h => h, tyX2_ok 12 (Nat.le_of_ble_eq_true rfl), by cases x9 <;> rfl, by cases x9 <;> rfl, ap_2 hts hK⟩, List.forall_mem_cons.mpr ⟨⟨RX3, TX3, 14, "StoryColumns$Block", tyX3 12, rfl, in_X3, Nat.le_of_ble_eq_true rfl, Or.inl ⟨(hts _ q222), Or.inr ⟨rfl, rfl, rfl⟩⟩, fun _ h => h, tyX3_ok 12 (Nat.le_of_ble_eq_true rfl), by cases x9 <;> rfl, by cases x9 <;> rfl, ap_3 hts hK⟩, fun _ h9 => absurd h9 List.not_mem_nil⟩⟩
theorem pl_X2_15 {G : Cx} {nL fr lc : Nat} {cc : ByteArray} {ret : Option FieldType} {nm : String} (hF : FX G cc nL RX2 ret nm fr lc) (x9 : Int32) : ∀ c ∈ [2, 3], PF G RX2 nm 15 c 7 (.int x9) := by
  obtain ⟨⟨p, l, e, R, s, m, args, below, meth, c0⟩, A, D, dA, mi⟩ := G
  obtain ⟨hx, hb, hml, hown, hts, hr, hlk, hK, hnm, hfr, hlc⟩ := hF
  exact List.forall_mem_cons.mpr ⟨⟨RX2, TX2, 13, "StoryColumns$Block", tyX2 7, rfl, in_X2, Nat.le_of_ble_eq_true rfl, Or.inl ⟨(hts _ q205), Or.inl rfl⟩, fun _ h => h, tyX2_ok 7 (Nat.le_of_ble_eq_true rfl), rfl, rfl, ap_2 hts hK⟩, List.forall_mem_cons.mpr ⟨⟨RX3, TX3, 14, "StoryColumns$Block", tyX3 7, rfl, in_X3, Nat.le_of_ble_eq_true rfl, Or.inl ⟨(hts _ q205), Or.inl rfl⟩, fun _ h => h, tyX3_ok 7 (Nat.le_of_ble_eq_true rfl), rfl, rfl, ap_3 hts hK⟩, fun _ h9 => absurd h9 List.not_mem_nil⟩⟩
theorem pl_X2_21 {G : Cx} {nL fr lc : Nat} {cc : ByteArray} {ret : Option FieldType} (hF : FX G cc nL RX2 ret "<init>" fr lc) (x9 : Option Nat) : ∀ c ∈ [2, 3], PF G RX2 "<init>" 21 c 8 (va_rf x9) := by
  obtain ⟨⟨p, l, e, R, s, m, args, below, meth, c0⟩, A, D, dA, mi⟩ := G
  obtain ⟨hx, hb, hml, hown, hts, hr, hlk, hK, hnm, hfr, hlc⟩ := hF
  exact List.forall_mem_cons.mpr ⟨⟨RX2, TX2, 13, "StoryColumns$Block", tyX2 8, rfl, in_X2, Nat.le_of_ble_eq_true rfl, Or.inl ⟨(hts _ q208), Or.inr ⟨rfl, rfl, rfl⟩⟩, fun _ h => h, tyX2_ok 8 (Nat.le_of_ble_eq_true rfl), by cases x9 <;> rfl, by cases x9 <;> rfl, ap_2 hts hK⟩, List.forall_mem_cons.mpr ⟨⟨RX3, TX3, 14, "StoryColumns$Block", tyX3 8, rfl, in_X3, Nat.le_of_ble_eq_true rfl, Or.inl ⟨(hts _ q208), Or.inr ⟨rfl, rfl, rfl⟩⟩, fun _ h => h, tyX3_ok 8 (Nat.le_of_ble_eq_true rfl), by cases x9 <;> rfl, by cases x9 <;> rfl, ap_3 hts hK⟩, fun _ h9 => absurd h9 List.not_mem_nil⟩⟩
theorem pl_X2_25 {G : Cx} {nL fr lc : Nat} {cc : ByteArray} {ret : Option FieldType} (hF : FX G cc nL RX2 ret "<init>" fr lc) (x9 : Int32) : ∀ c ∈ [2, 3], PF G RX2 "<init>" 25 c 0 (.int x9) := by
  obtain ⟨⟨p, l, e, R, s, m, args, below, meth, c0⟩, A, D, dA, mi⟩ := G
  obtain ⟨hx, hb, hml, hown, hts, hr, hlk, hK, hnm, hfr, hlc⟩ := hF
  exact List.forall_mem_cons.mpr ⟨⟨RX2, TX2, 13, "StoryColumns$Block", tyX2 0, rfl, in_X2, Nat.le_of_ble_eq_true rfl, Or.inl ⟨(hts _ q173), Or.inr ⟨rfl, rfl, rfl⟩⟩, fun _ h => h, tyX2_ok 0 (Nat.le_of_ble_eq_true rfl), rfl, rfl, ap_2 hts hK⟩, List.forall_mem_cons.mpr ⟨⟨RX3, TX3, 14, "StoryColumns$Block", tyX3 0, rfl, in_X3, Nat.le_of_ble_eq_true rfl, Or.inl ⟨(hts _ q173), Or.inr ⟨rfl, rfl, rfl⟩⟩, fun _ h => h, tyX3_ok 0 (Nat.le_of_ble_eq_true rfl), rfl, rfl, ap_3 hts hK⟩, fun _ h9 => absurd h9 List.not_mem_nil⟩⟩
theorem pl_X2_28 {G : Cx} {nL fr lc : Nat} {cc : ByteArray} {ret : Option FieldType} (hF : FX G cc nL RX2 ret "<init>" fr lc) (x9 : Int32) : ∀ c ∈ [2, 3], PF G RX2 "<init>" 28 c 1 (.int x9) := by
  obtain ⟨⟨p, l, e, R, s, m, args, below, meth, c0⟩, A, D, dA, mi⟩ := G
  obtain ⟨hx, hb, hml, hown, hts, hr, hlk, hK, hnm, hfr, hlc⟩ := hF
  exact List.forall_mem_cons.mpr ⟨⟨RX2, TX2, 13, "StoryColumns$Block", tyX2 1, rfl, in_X2, Nat.le_of_ble_eq_true rfl, Or.inl ⟨(hts _ q179), Or.inr ⟨rfl, rfl, rfl⟩⟩, fun _ h => h, tyX2_ok 1 (Nat.le_of_ble_eq_true rfl), rfl, rfl, ap_2 hts hK⟩, List.forall_mem_cons.mpr ⟨⟨RX3, TX3, 14, "StoryColumns$Block", tyX3 1, rfl, in_X3, Nat.le_of_ble_eq_true rfl, Or.inl ⟨(hts _ q179), Or.inr ⟨rfl, rfl, rfl⟩⟩, fun _ h => h, tyX3_ok 1 (Nat.le_of_ble_eq_true rfl), rfl, rfl, ap_3 hts hK⟩, fun _ h9 => absurd h9 List.not_mem_nil⟩⟩
theorem pl_X2_31 {G : Cx} {nL fr lc : Nat} {cc : ByteArray} {ret : Option FieldType} (hF : FX G cc nL RX2 ret "<init>" fr lc) (x9 : Int32) : ∀ c ∈ [2, 3], PF G RX2 "<init>" 31 c 2 (.int x9) := by
  obtain ⟨⟨p, l, e, R, s, m, args, below, meth, c0⟩, A, D, dA, mi⟩ := G
  obtain ⟨hx, hb, hml, hown, hts, hr, hlk, hK, hnm, hfr, hlc⟩ := hF
  exact List.forall_mem_cons.mpr ⟨⟨RX2, TX2, 13, "StoryColumns$Block", tyX2 2, rfl, in_X2, Nat.le_of_ble_eq_true rfl, Or.inl ⟨(hts _ q185), Or.inr ⟨rfl, rfl, rfl⟩⟩, fun _ h => h, tyX2_ok 2 (Nat.le_of_ble_eq_true rfl), rfl, rfl, ap_2 hts hK⟩, List.forall_mem_cons.mpr ⟨⟨RX3, TX3, 14, "StoryColumns$Block", tyX3 2, rfl, in_X3, Nat.le_of_ble_eq_true rfl, Or.inl ⟨(hts _ q185), Or.inr ⟨rfl, rfl, rfl⟩⟩, fun _ h => h, tyX3_ok 2 (Nat.le_of_ble_eq_true rfl), rfl, rfl, ap_3 hts hK⟩, fun _ h9 => absurd h9 List.not_mem_nil⟩⟩
theorem pl_X2_34 {G : Cx} {nL fr lc : Nat} {cc : ByteArray} {ret : Option FieldType} {nm : String} (hF : FX G cc nL RX2 ret nm fr lc) (x9 : Int32) : ∀ c ∈ [2, 3], PF G RX2 nm 34 c 3 (.int x9) := by
  obtain ⟨⟨p, l, e, R, s, m, args, below, meth, c0⟩, A, D, dA, mi⟩ := G
  obtain ⟨hx, hb, hml, hown, hts, hr, hlk, hK, hnm, hfr, hlc⟩ := hF
  exact List.forall_mem_cons.mpr ⟨⟨RX2, TX2, 13, "StoryColumns$Block", tyX2 3, rfl, in_X2, Nat.le_of_ble_eq_true rfl, Or.inl ⟨(hts _ q189), Or.inl rfl⟩, fun _ h => h, tyX2_ok 3 (Nat.le_of_ble_eq_true rfl), rfl, rfl, ap_2 hts hK⟩, List.forall_mem_cons.mpr ⟨⟨RX3, TX3, 14, "StoryColumns$Block", tyX3 3, rfl, in_X3, Nat.le_of_ble_eq_true rfl, Or.inl ⟨(hts _ q189), Or.inl rfl⟩, fun _ h => h, tyX3_ok 3 (Nat.le_of_ble_eq_true rfl), rfl, rfl, ap_3 hts hK⟩, fun _ h9 => absurd h9 List.not_mem_nil⟩⟩
theorem pl_X2_37 {G : Cx} {nL fr lc : Nat} {cc : ByteArray} {ret : Option FieldType} {nm : String} (hF : FX G cc nL RX2 ret nm fr lc) (x9 : Int32) : ∀ c ∈ [2, 3], PF G RX2 nm 37 c 4 (.int x9) := by
  obtain ⟨⟨p, l, e, R, s, m, args, below, meth, c0⟩, A, D, dA, mi⟩ := G
  obtain ⟨hx, hb, hml, hown, hts, hr, hlk, hK, hnm, hfr, hlc⟩ := hF
  exact List.forall_mem_cons.mpr ⟨⟨RX2, TX2, 13, "StoryColumns$Block", tyX2 4, rfl, in_X2, Nat.le_of_ble_eq_true rfl, Or.inl ⟨(hts _ q195), Or.inl rfl⟩, fun _ h => h, tyX2_ok 4 (Nat.le_of_ble_eq_true rfl), rfl, rfl, ap_2 hts hK⟩, List.forall_mem_cons.mpr ⟨⟨RX3, TX3, 14, "StoryColumns$Block", tyX3 4, rfl, in_X3, Nat.le_of_ble_eq_true rfl, Or.inl ⟨(hts _ q195), Or.inl rfl⟩, fun _ h => h, tyX3_ok 4 (Nat.le_of_ble_eq_true rfl), rfl, rfl, ap_3 hts hK⟩, fun _ h9 => absurd h9 List.not_mem_nil⟩⟩
theorem pl_X2_40 {G : Cx} {nL fr lc : Nat} {cc : ByteArray} {ret : Option FieldType} (hF : FX G cc nL RX2 ret "<init>" fr lc) (x9 : Int32) : ∀ c ∈ [2, 3], PF G RX2 "<init>" 40 c 5 (.int x9) := by
  obtain ⟨⟨p, l, e, R, s, m, args, below, meth, c0⟩, A, D, dA, mi⟩ := G
  obtain ⟨hx, hb, hml, hown, hts, hr, hlk, hK, hnm, hfr, hlc⟩ := hF
  exact List.forall_mem_cons.mpr ⟨⟨RX2, TX2, 13, "StoryColumns$Block", tyX2 5, rfl, in_X2, Nat.le_of_ble_eq_true rfl, Or.inl ⟨(hts _ q197), Or.inr ⟨rfl, rfl, rfl⟩⟩, fun _ h => h, tyX2_ok 5 (Nat.le_of_ble_eq_true rfl), rfl, rfl, ap_2 hts hK⟩, List.forall_mem_cons.mpr ⟨⟨RX3, TX3, 14, "StoryColumns$Block", tyX3 5, rfl, in_X3, Nat.le_of_ble_eq_true rfl, Or.inl ⟨(hts _ q197), Or.inr ⟨rfl, rfl, rfl⟩⟩, fun _ h => h, tyX3_ok 5 (Nat.le_of_ble_eq_true rfl), rfl, rfl, ap_3 hts hK⟩, fun _ h9 => absurd h9 List.not_mem_nil⟩⟩
theorem pl_X2_43 {G : Cx} {nL fr lc : Nat} {cc : ByteArray} {ret : Option FieldType} (hF : FX G cc nL RX2 ret "<init>" fr lc) (x9 : Int32) : ∀ c ∈ [2, 3], PF G RX2 "<init>" 43 c 6 (.int x9) := by
  obtain ⟨⟨p, l, e, R, s, m, args, below, meth, c0⟩, A, D, dA, mi⟩ := G
  obtain ⟨hx, hb, hml, hown, hts, hr, hlk, hK, hnm, hfr, hlc⟩ := hF
  exact List.forall_mem_cons.mpr ⟨⟨RX2, TX2, 13, "StoryColumns$Block", tyX2 6, rfl, in_X2, Nat.le_of_ble_eq_true rfl, Or.inl ⟨(hts _ q201), Or.inr ⟨rfl, rfl, rfl⟩⟩, fun _ h => h, tyX2_ok 6 (Nat.le_of_ble_eq_true rfl), rfl, rfl, ap_2 hts hK⟩, List.forall_mem_cons.mpr ⟨⟨RX3, TX3, 14, "StoryColumns$Block", tyX3 6, rfl, in_X3, Nat.le_of_ble_eq_true rfl, Or.inl ⟨(hts _ q201), Or.inr ⟨rfl, rfl, rfl⟩⟩, fun _ h => h, tyX3_ok 6 (Nat.le_of_ble_eq_true rfl), rfl, rfl, ap_3 hts hK⟩, fun _ h9 => absurd h9 List.not_mem_nil⟩⟩
def fX2_init (a0 : Option Nat) (a1 : Option Nat) (a2 : Int32) (a3 : Int32) (a4 : Int32) (a5 : Int32) (a6 : Int32) (a7 : Int32) (a8 : Int32) (M : Mp) (z : Nat) : Rs Unit := (pu M a0 [2, 3] 12 (va_rf a1)).bind fun M1 =>
if a0 = none then none else
  ((pu M1 a0 [2, 3] 7 (.int (1 : Int32))).bind fun M2 =>
nwq 3 (2 : Int32) M2 z fun M3 z4 =>
(pu M3 a0 [2, 3] 8 (va_rf (some z))).bind fun M5 =>
(pu M5 a0 [2, 3] 0 (.int a2)).bind fun M6 =>
(pu M6 a0 [2, 3] 1 (.int a3)).bind fun M7 =>
(pu M7 a0 [2, 3] 2 (.int a4)).bind fun M8 =>
(pu M8 a0 [2, 3] 3 (.int a5)).bind fun M9 =>
(pu M9 a0 [2, 3] 4 (.int a6)).bind fun M10 =>
(pu M10 a0 [2, 3] 5 (.int a7)).bind fun M11 =>
(pu M11 a0 [2, 3] 6 (.int a8)).bind fun M12 =>
some ((), M12, 0, 0))
theorem gX2_init {G : Cx} {F : Option Value × Mp × Nat} (hF : FX G cX2_init 9 RX2 (Option.none : Option Jvm.ClassFile.FieldType) "<init>" 1 20) (a0 : Option Nat) (a1 : Option Nat) (a2 : Int32) (a3 : Int32) (a4 : Int32) (a5 : Int32) (a6 : Int32) (a7 : Int32) (a8 : Int32) (M : Mp) (z : Nat) : SK G F 9 eV 0 [some (va_rf a0), some (va_rf a1), some (.int a2), some (.int a3), some (.int a4), some (.int a5), some (.int a6), some (.int a7), some (.int a8)] [] M z (fX2_init a0 a1 a2 a3 a4 a5 a6 a7 a8 M z) := by
  unfold fX2_init
  refine s_aload_n (pc := 0) hF dX2_init_0 rfl rfl ?_
  refine s_aload_n (pc := 1) hF dX2_init_1 rfl rfl ?_
  refine s_put (pc := 2) hF (pl_X2_3 hF _) dX2_init_2 (fun M1 => ?_)
  refine s_aload_n (pc := 5) hF dX2_init_5 rfl rfl ?_
  refine s_oinit (pc := 6) hF q169 ⟨Nat.le_of_ble_eq_true rfl, Nat.le_of_ble_eq_true rfl⟩ ⟨trivial, Nat.le_of_ble_eq_true rfl⟩ dX2_init_6 ?_
  refine s_aload_n (pc := 9) hF dX2_init_9 rfl rfl ?_
  refine s_iconst (pc := 10) hF dX2_init_10 (1 : Int32) (by decide) ?_
  refine s_put (pc := 11) hF (pl_X2_15 hF _) dX2_init_11 (fun M2 => ?_)
  refine s_aload_n (pc := 14) hF dX2_init_14 rfl rfl ?_
  refine s_iconst (pc := 15) hF dX2_init_15 (2 : Int32) (by decide) ?_
  refine s_nwq (pc := 16) hF 3 "StoryColumns$Mark" dX2_init_16 (by decide) q170 (fun M3 z4 => ?_)
  refine s_put (pc := 19) hF (pl_X2_21 hF _) dX2_init_19 (fun M5 => ?_)
  refine s_aload_n (pc := 22) hF dX2_init_22 rfl rfl ?_
  refine s_iload_n (pc := 23) hF dX2_init_23 rfl rfl ?_
  refine s_put (pc := 24) hF (pl_X2_25 hF _) dX2_init_24 (fun M6 => ?_)
  refine s_aload_n (pc := 27) hF dX2_init_27 rfl rfl ?_
  refine s_iload_n (pc := 28) hF dX2_init_28 rfl rfl ?_
  refine s_put (pc := 29) hF (pl_X2_28 hF _) dX2_init_29 (fun M7 => ?_)
  refine s_aload_n (pc := 32) hF dX2_init_32 rfl rfl ?_
  refine s_iload (pc := 33) hF dX2_init_33 rfl ?_
  refine s_put (pc := 35) hF (pl_X2_31 hF _) dX2_init_35 (fun M8 => ?_)
  refine s_aload_n (pc := 38) hF dX2_init_38 rfl rfl ?_
  refine s_iload (pc := 39) hF dX2_init_39 rfl ?_
  refine s_put (pc := 41) hF (pl_X2_34 hF _) dX2_init_41 (fun M9 => ?_)
  refine s_aload_n (pc := 44) hF dX2_init_44 rfl rfl ?_
  refine s_iload (pc := 45) hF dX2_init_45 rfl ?_
  refine s_put (pc := 47) hF (pl_X2_37 hF _) dX2_init_47 (fun M10 => ?_)
  refine s_aload_n (pc := 50) hF dX2_init_50 rfl rfl ?_
  refine s_iload (pc := 51) hF dX2_init_51 rfl ?_
  refine s_put (pc := 53) hF (pl_X2_40 hF _) dX2_init_53 (fun M11 => ?_)
  refine s_aload_n (pc := 56) hF dX2_init_56 rfl rfl ?_
  refine s_iload (pc := 57) hF dX2_init_57 rfl ?_
  refine s_put (pc := 59) hF (pl_X2_43 hF _) dX2_init_59 (fun M12 => ?_)
  exact s_vret (pc := 62) hF dX2_init_62
theorem mX2_init (a0 : Option Nat) (a1 : Option Nat) (a2 : Int32) (a3 : Int32) (a4 : Int32) (a5 : Int32) (a6 : Int32) (a7 : Int32) (a8 : Int32) : MT yX2_init cX2_init 9 (Option.none : Option Jvm.ClassFile.FieldType) 1 20 eV [va_rf a0, va_rf a1, .int a2, .int a3, .int a4, .int a5, .int a6, .int a7, .int a8] (fX2_init a0 a1 a2 a3 a4 a5 a6 a7 a8) :=
  MT.of (L0 := [some (va_rf a0), some (va_rf a1), some (.int a2), some (.int a3), some (.int a4), some (.int a5), some (.int a6), some (.int a7), some (.int a8)]) (by decide) ⟨ct _, ⟨ct _, ⟨rfl, ⟨rfl, ⟨rfl, ⟨rfl, ⟨rfl, ⟨rfl, ⟨rfl, trivial⟩⟩⟩⟩⟩⟩⟩⟩⟩ (Nat.le_of_ble_eq_true rfl) rfl (fun _ _ hF M z => gX2_init hF a0 a1 a2 a3 a4 a5 a6 a7 a8 M z)

theorem pl_X3_3 {G : Cx} {nL fr lc : Nat} {cc : ByteArray} {ret : Option FieldType} (hF : FX G cc nL RX3 ret "<init>" fr lc) (x9 : Option Nat) : ∀ c ∈ [3], PF G RX3 "<init>" 3 c 13 (va_rf x9) := by
  obtain ⟨⟨p, l, e, R, s, m, args, below, meth, c0⟩, A, D, dA, mi⟩ := G
  obtain ⟨hx, hb, hml, hown, hts, hr, hlk, hK, hnm, hfr, hlc⟩ := hF
  exact List.forall_mem_cons.mpr ⟨⟨RX3, TX3, 14, "StoryColumns$Head", tyX3 13, rfl, in_X3, Nat.le_of_ble_eq_true rfl, Or.inl ⟨(hts _ q172), Or.inr ⟨rfl, rfl, rfl⟩⟩, fun _ h => h, tyX3_ok 13 (Nat.le_of_ble_eq_true rfl), by cases x9 <;> rfl, by cases x9 <;> rfl, ap_3 hts hK⟩, fun _ h9 => absurd h9 List.not_mem_nil⟩
theorem cw_X2_init : CWm yX2_init cX2_init 9 (Option.none : Option Jvm.ClassFile.FieldType) 8 := ⟨q168, q64, by decide +kernel, by decide +kernel, by decide +kernel⟩
def fX3_init (a0 : Option Nat) (a1 : Option Nat) (a2 : Int32) (a3 : Int32) (a4 : Int32) (a5 : Int32) (a6 : Int32) (a7 : Int32) (M : Mp) (z : Nat) : Rs Unit := (pu M a0 [3] 13 (va_rf a1)).bind fun M1 =>
if a0 = none then none else
  (cb (fX2_init a0 a1 a2 a3 (0 : Int32) a4 a5 a6 a7 M1 z) z fun _ M3 z4 =>
some ((), M3, 0, 0))
theorem gX3_init {G : Cx} {F : Option Value × Mp × Nat} (hF : FX G cX3_init 8 RX3 (Option.none : Option Jvm.ClassFile.FieldType) "<init>" 2 48) (a0 : Option Nat) (a1 : Option Nat) (a2 : Int32) (a3 : Int32) (a4 : Int32) (a5 : Int32) (a6 : Int32) (a7 : Int32) (M : Mp) (z : Nat) : SK G F 8 eV 0 [some (va_rf a0), some (va_rf a1), some (.int a2), some (.int a3), some (.int a4), some (.int a5), some (.int a6), some (.int a7)] [] M z (fX3_init a0 a1 a2 a3 a4 a5 a6 a7 M z) := by
  unfold fX3_init
  refine s_aload_n (pc := 0) hF dX3_init_0 rfl rfl ?_
  refine s_aload_n (pc := 1) hF dX3_init_1 rfl rfl ?_
  refine s_put (pc := 2) hF (pl_X3_3 hF _) dX3_init_2 (fun M1 => ?_)
  refine s_aload_n (pc := 5) hF dX3_init_5 rfl rfl ?_
  refine s_aload_n (pc := 6) hF dX3_init_6 rfl rfl ?_
  refine s_iload_n (pc := 7) hF dX3_init_7 rfl rfl ?_
  refine s_iload_n (pc := 8) hF dX3_init_8 rfl rfl ?_
  refine s_iconst (pc := 9) hF dX3_init_9 (0 : Int32) (by decide) ?_
  refine s_iload (pc := 10) hF dX3_init_10 rfl ?_
  refine s_iload (pc := 12) hF dX3_init_12 rfl ?_
  refine s_iload (pc := 14) hF dX3_init_14 rfl ?_
  refine s_iload (pc := 16) hF dX3_init_16 rfl ?_
  refine s_callJ (pc := 18) (As := [va_rf a1, .int a2, .int a3, .int (0 : Int32), .int a4, .int a5, .int a6, .int a7]) (st := []) (stf := fun r9 => []) hF (mX2_init a0 a1 a2 a3 (0 : Int32) a4 a5 a6 a7) cw_X2_init q166 q167 rfl rfl ⟨Nat.le_of_ble_eq_true rfl, Nat.le_of_ble_eq_true rfl⟩ ⟨trivial, Nat.le_of_ble_eq_true rfl⟩ dX3_init_18 rfl (fun _ => rfl) (fun v2 M3 z4 => ?_)
  exact s_vret (pc := 21) hF dX3_init_21
theorem mX3_init (a0 : Option Nat) (a1 : Option Nat) (a2 : Int32) (a3 : Int32) (a4 : Int32) (a5 : Int32) (a6 : Int32) (a7 : Int32) : MT yX3_init cX3_init 8 (Option.none : Option Jvm.ClassFile.FieldType) 2 48 eV [va_rf a0, va_rf a1, .int a2, .int a3, .int a4, .int a5, .int a6, .int a7] (fX3_init a0 a1 a2 a3 a4 a5 a6 a7) :=
  MT.of (L0 := [some (va_rf a0), some (va_rf a1), some (.int a2), some (.int a3), some (.int a4), some (.int a5), some (.int a6), some (.int a7)]) (by decide) ⟨ct _, ⟨ct _, ⟨rfl, ⟨rfl, ⟨rfl, ⟨rfl, ⟨rfl, ⟨rfl, trivial⟩⟩⟩⟩⟩⟩⟩⟩ (Nat.le_of_ble_eq_true rfl) rfl (fun _ _ hF M z => gX3_init hF a0 a1 a2 a3 a4 a5 a6 a7 M z)

theorem fl_X2_28 {G : Cx} {nL fr lc : Nat} {cc : ByteArray} {ret : Option FieldType} {nm : String} (hF : FX G cc nL RX2 ret nm fr lc) : ∀ c ∈ [2, 3], GF G RX2 28 c 1 := by
  obtain ⟨⟨p, l, e, R, s, m, args, below, meth, c0⟩, A, D, dA, mi⟩ := G
  obtain ⟨hx, hb, hml, hown, hts, hr, hlk, hK, hnm, hfr, hlc⟩ := hF
  exact List.forall_mem_cons.mpr ⟨⟨RX2, TX2, 13, "StoryColumns$Block", rfl, in_X2, Nat.le_of_ble_eq_true rfl, Or.inl (hts _ q179), fun _ h => h⟩, List.forall_mem_cons.mpr ⟨⟨RX3, TX3, 14, "StoryColumns$Block", rfl, in_X3, Nat.le_of_ble_eq_true rfl, Or.inl (hts _ q179), fun _ h => h⟩, fun _ h9 => absurd h9 List.not_mem_nil⟩⟩
def fX2_page (a0 : Option Nat) (M : Mp) (z : Nat) : Rs Int32 := (gi M a0 [2, 3] 1).bind fun v1 =>
some (v1, M, 0, 0)
theorem gX2_page {G : Cx} {F : Option Value × Mp × Nat} (hF : FX G cX2_page 1 RX2 (Option.some Jvm.ClassFile.FieldType.int) "page" 0 0) (a0 : Option Nat) (M : Mp) (z : Nat) : SK G F 1 eI 0 [some (va_rf a0)] [] M z (fX2_page a0 M z) := by
  unfold fX2_page
  refine s_aload_n (pc := 0) hF dX2_page_0 rfl rfl ?_
  refine s_geti (pc := 1) hF (fl_X2_28 hF) dX2_page_1 (fun v1 => ?_)
  exact s_iret (pc := 4) hF dX2_page_4
theorem mX2_page (a0 : Option Nat) : MT yX2_page cX2_page 1 (Option.some Jvm.ClassFile.FieldType.int) 0 0 eI [va_rf a0] (fX2_page a0) :=
  MT.of (L0 := [some (va_rf a0)]) (by decide) ⟨ct _, trivial⟩ (Nat.le_of_ble_eq_true rfl) rfl (fun _ _ hF M z => gX2_page hF a0 M z)

theorem fl_X2_34 {G : Cx} {nL fr lc : Nat} {cc : ByteArray} {ret : Option FieldType} {nm : String} (hF : FX G cc nL RX2 ret nm fr lc) : ∀ c ∈ [2, 3], GF G RX2 34 c 3 := by
  obtain ⟨⟨p, l, e, R, s, m, args, below, meth, c0⟩, A, D, dA, mi⟩ := G
  obtain ⟨hx, hb, hml, hown, hts, hr, hlk, hK, hnm, hfr, hlc⟩ := hF
  exact List.forall_mem_cons.mpr ⟨⟨RX2, TX2, 13, "StoryColumns$Block", rfl, in_X2, Nat.le_of_ble_eq_true rfl, Or.inl (hts _ q189), fun _ h => h⟩, List.forall_mem_cons.mpr ⟨⟨RX3, TX3, 14, "StoryColumns$Block", rfl, in_X3, Nat.le_of_ble_eq_true rfl, Or.inl (hts _ q189), fun _ h => h⟩, fun _ h9 => absurd h9 List.not_mem_nil⟩⟩
def fX2_left (a0 : Option Nat) (M : Mp) (z : Nat) : Rs Int32 := (gi M a0 [2, 3] 3).bind fun v1 =>
some (v1, M, 0, 0)
theorem gX2_left {G : Cx} {F : Option Value × Mp × Nat} (hF : FX G cX2_left 1 RX2 (Option.some Jvm.ClassFile.FieldType.int) "left" 0 0) (a0 : Option Nat) (M : Mp) (z : Nat) : SK G F 1 eI 0 [some (va_rf a0)] [] M z (fX2_left a0 M z) := by
  unfold fX2_left
  refine s_aload_n (pc := 0) hF dX2_left_0 rfl rfl ?_
  refine s_geti (pc := 1) hF (fl_X2_34 hF) dX2_left_1 (fun v1 => ?_)
  exact s_iret (pc := 4) hF dX2_left_4
theorem mX2_left (a0 : Option Nat) : MT yX2_left cX2_left 1 (Option.some Jvm.ClassFile.FieldType.int) 0 0 eI [va_rf a0] (fX2_left a0) :=
  MT.of (L0 := [some (va_rf a0)]) (by decide) ⟨ct _, trivial⟩ (Nat.le_of_ble_eq_true rfl) rfl (fun _ _ hF M z => gX2_left hF a0 M z)

theorem fl_X2_37 {G : Cx} {nL fr lc : Nat} {cc : ByteArray} {ret : Option FieldType} {nm : String} (hF : FX G cc nL RX2 ret nm fr lc) : ∀ c ∈ [2, 3], GF G RX2 37 c 4 := by
  obtain ⟨⟨p, l, e, R, s, m, args, below, meth, c0⟩, A, D, dA, mi⟩ := G
  obtain ⟨hx, hb, hml, hown, hts, hr, hlk, hK, hnm, hfr, hlc⟩ := hF
  exact List.forall_mem_cons.mpr ⟨⟨RX2, TX2, 13, "StoryColumns$Block", rfl, in_X2, Nat.le_of_ble_eq_true rfl, Or.inl (hts _ q195), fun _ h => h⟩, List.forall_mem_cons.mpr ⟨⟨RX3, TX3, 14, "StoryColumns$Block", rfl, in_X3, Nat.le_of_ble_eq_true rfl, Or.inl (hts _ q195), fun _ h => h⟩, fun _ h9 => absurd h9 List.not_mem_nil⟩⟩
def fX2_right (a0 : Option Nat) (M : Mp) (z : Nat) : Rs Int32 := (gi M a0 [2, 3] 4).bind fun v1 =>
some (v1, M, 0, 0)
theorem gX2_right {G : Cx} {F : Option Value × Mp × Nat} (hF : FX G cX2_right 1 RX2 (Option.some Jvm.ClassFile.FieldType.int) "right" 0 0) (a0 : Option Nat) (M : Mp) (z : Nat) : SK G F 1 eI 0 [some (va_rf a0)] [] M z (fX2_right a0 M z) := by
  unfold fX2_right
  refine s_aload_n (pc := 0) hF dX2_right_0 rfl rfl ?_
  refine s_geti (pc := 1) hF (fl_X2_37 hF) dX2_right_1 (fun v1 => ?_)
  exact s_iret (pc := 4) hF dX2_right_4
theorem mX2_right (a0 : Option Nat) : MT yX2_right cX2_right 1 (Option.some Jvm.ClassFile.FieldType.int) 0 0 eI [va_rf a0] (fX2_right a0) :=
  MT.of (L0 := [some (va_rf a0)]) (by decide) ⟨ct _, trivial⟩ (Nat.le_of_ble_eq_true rfl) rfl (fun _ _ hF M z => gX2_right hF a0 M z)

theorem fl_X2_40 {G : Cx} {nL fr lc : Nat} {cc : ByteArray} {ret : Option FieldType} {nm : String} (hF : FX G cc nL RX2 ret nm fr lc) : ∀ c ∈ [2, 3], GF G RX2 40 c 5 := by
  obtain ⟨⟨p, l, e, R, s, m, args, below, meth, c0⟩, A, D, dA, mi⟩ := G
  obtain ⟨hx, hb, hml, hown, hts, hr, hlk, hK, hnm, hfr, hlc⟩ := hF
  exact List.forall_mem_cons.mpr ⟨⟨RX2, TX2, 13, "StoryColumns$Block", rfl, in_X2, Nat.le_of_ble_eq_true rfl, Or.inl (hts _ q197), fun _ h => h⟩, List.forall_mem_cons.mpr ⟨⟨RX3, TX3, 14, "StoryColumns$Block", rfl, in_X3, Nat.le_of_ble_eq_true rfl, Or.inl (hts _ q197), fun _ h => h⟩, fun _ h9 => absurd h9 List.not_mem_nil⟩⟩
def fX2_top (a0 : Option Nat) (M : Mp) (z : Nat) : Rs Int32 := (gi M a0 [2, 3] 5).bind fun v1 =>
some (v1, M, 0, 0)
theorem gX2_top {G : Cx} {F : Option Value × Mp × Nat} (hF : FX G cX2_top 1 RX2 (Option.some Jvm.ClassFile.FieldType.int) "top" 0 0) (a0 : Option Nat) (M : Mp) (z : Nat) : SK G F 1 eI 0 [some (va_rf a0)] [] M z (fX2_top a0 M z) := by
  unfold fX2_top
  refine s_aload_n (pc := 0) hF dX2_top_0 rfl rfl ?_
  refine s_geti (pc := 1) hF (fl_X2_40 hF) dX2_top_1 (fun v1 => ?_)
  exact s_iret (pc := 4) hF dX2_top_4
theorem mX2_top (a0 : Option Nat) : MT yX2_top cX2_top 1 (Option.some Jvm.ClassFile.FieldType.int) 0 0 eI [va_rf a0] (fX2_top a0) :=
  MT.of (L0 := [some (va_rf a0)]) (by decide) ⟨ct _, trivial⟩ (Nat.le_of_ble_eq_true rfl) rfl (fun _ _ hF M z => gX2_top hF a0 M z)

theorem fl_X2_43 {G : Cx} {nL fr lc : Nat} {cc : ByteArray} {ret : Option FieldType} {nm : String} (hF : FX G cc nL RX2 ret nm fr lc) : ∀ c ∈ [2, 3], GF G RX2 43 c 6 := by
  obtain ⟨⟨p, l, e, R, s, m, args, below, meth, c0⟩, A, D, dA, mi⟩ := G
  obtain ⟨hx, hb, hml, hown, hts, hr, hlk, hK, hnm, hfr, hlc⟩ := hF
  exact List.forall_mem_cons.mpr ⟨⟨RX2, TX2, 13, "StoryColumns$Block", rfl, in_X2, Nat.le_of_ble_eq_true rfl, Or.inl (hts _ q201), fun _ h => h⟩, List.forall_mem_cons.mpr ⟨⟨RX3, TX3, 14, "StoryColumns$Block", rfl, in_X3, Nat.le_of_ble_eq_true rfl, Or.inl (hts _ q201), fun _ h => h⟩, fun _ h9 => absurd h9 List.not_mem_nil⟩⟩
def fX2_bottom (a0 : Option Nat) (M : Mp) (z : Nat) : Rs Int32 := (gi M a0 [2, 3] 6).bind fun v1 =>
some (v1, M, 0, 0)
theorem gX2_bottom {G : Cx} {F : Option Value × Mp × Nat} (hF : FX G cX2_bottom 1 RX2 (Option.some Jvm.ClassFile.FieldType.int) "bottom" 0 0) (a0 : Option Nat) (M : Mp) (z : Nat) : SK G F 1 eI 0 [some (va_rf a0)] [] M z (fX2_bottom a0 M z) := by
  unfold fX2_bottom
  refine s_aload_n (pc := 0) hF dX2_bottom_0 rfl rfl ?_
  refine s_geti (pc := 1) hF (fl_X2_43 hF) dX2_bottom_1 (fun v1 => ?_)
  exact s_iret (pc := 4) hF dX2_bottom_4
theorem mX2_bottom (a0 : Option Nat) : MT yX2_bottom cX2_bottom 1 (Option.some Jvm.ClassFile.FieldType.int) 0 0 eI [va_rf a0] (fX2_bottom a0) :=
  MT.of (L0 := [some (va_rf a0)]) (by decide) ⟨ct _, trivial⟩ (Nat.le_of_ble_eq_true rfl) rfl (fun _ _ hF M z => gX2_bottom hF a0 M z)

theorem cw_X2_bottom : CWm yX2_bottom cX2_bottom 1 (Option.some Jvm.ClassFile.FieldType.int) 0 := ⟨q442, q64, by decide +kernel, by decide +kernel, by decide +kernel⟩
theorem cw_X2_top : CWm yX2_top cX2_top 1 (Option.some Jvm.ClassFile.FieldType.int) 0 := ⟨q431, q64, by decide +kernel, by decide +kernel, by decide +kernel⟩
theorem cw_X2_right : CWm yX2_right cX2_right 1 (Option.some Jvm.ClassFile.FieldType.int) 0 := ⟨q420, q64, by decide +kernel, by decide +kernel, by decide +kernel⟩
theorem cw_X2_left : CWm yX2_left cX2_left 1 (Option.some Jvm.ClassFile.FieldType.int) 0 := ⟨q409, q64, by decide +kernel, by decide +kernel, by decide +kernel⟩
theorem cw_X2_page : CWm yX2_page cX2_page 1 (Option.some Jvm.ClassFile.FieldType.int) 0 := ⟨q397, q64, by decide +kernel, by decide +kernel, by decide +kernel⟩
def fX11_meets (a0 : Option Nat) (a1 : Option Nat) (M : Mp) (z : Nat) : Rs Int32 := if ckc M a0 [2, 3] = true then
  (cb (fX2_page a0 M z) z fun v1 M2 z3 =>
if ckc M2 a1 [2, 3] = true then
  (cb (fX2_page a1 M2 z3) z3 fun v4 M5 z6 =>
if v1 = v4 then
  (if ckc M5 a0 [2, 3] = true then
  (cb (fX2_left a0 M5 z6) z6 fun v7 M8 z9 =>
if ckc M8 a1 [2, 3] = true then
  (cb (fX2_right a1 M8 z9) z9 fun v10 M11 z12 =>
if v10 < v7 then
  (some ((0 : Int32), M11, 0, 0))
else
  (if ckc M11 a1 [2, 3] = true then
  (cb (fX2_left a1 M11 z12) z12 fun v13 M14 z15 =>
if ckc M14 a0 [2, 3] = true then
  (cb (fX2_right a0 M14 z15) z15 fun v16 M17 z18 =>
if v16 < v13 then
  (some ((0 : Int32), M17, 0, 0))
else
  (if ckc M17 a0 [2, 3] = true then
  (cb (fX2_top a0 M17 z18) z18 fun v19 M20 z21 =>
if ckc M20 a1 [2, 3] = true then
  (cb (fX2_bottom a1 M20 z21) z21 fun v22 M23 z24 =>
if v22 < v19 then
  (some ((0 : Int32), M23, 0, 0))
else
  (if ckc M23 a1 [2, 3] = true then
  (cb (fX2_top a1 M23 z24) z24 fun v25 M26 z27 =>
if ckc M26 a0 [2, 3] = true then
  (cb (fX2_bottom a0 M26 z27) z27 fun v28 M29 z30 =>
if v28 < v25 then
  (some ((0 : Int32), M29, 0, 0))
else
  (some ((1 : Int32), M29, 0, 0)))
else none)
else none))
else none)
else none))
else none)
else none))
else none)
else none)
else
  (some ((0 : Int32), M5, 0, 0)))
else none)
else none
theorem gX11_meets {G : Cx} {F : Option Value × Mp × Nat} (hF : FX G cX11_meets 2 RX11 (Option.some Jvm.ClassFile.FieldType.boolean) "meets" 1 20) (a0 : Option Nat) (a1 : Option Nat) (M : Mp) (z : Nat) : SK G F 2 eI 0 [some (va_rf a0), some (va_rf a1)] [] M z (fX11_meets a0 a1 M z) := by
  unfold fX11_meets
  refine s_aload_n (pc := 0) hF dX11_meets_0 rfl rfl ?_
  refine s_callF (pc := 1) (As := []) (st := []) (stf := fun r9 => .int r9 :: []) (x := ⟨"StoryColumns$Area", "page", "()I"⟩) hF (mX2_page a0) cw_X2_page rfl ⟨by decide, by decide⟩ q389 q395 n_q391 n_q390 n_q396 (List.forall_mem_cons.mpr ⟨⟨(RX2, TX2, 13), rfl, q393, n_q394, n_q392⟩, List.forall_mem_cons.mpr ⟨⟨(RX3, TX3, 14), rfl, q399, n_q400, n_q398⟩, fun _ h9 => absurd h9 List.not_mem_nil⟩⟩) rfl ⟨Nat.le_of_ble_eq_true rfl, Nat.le_of_ble_eq_true rfl⟩ ⟨trivial, Nat.le_of_ble_eq_true rfl⟩ dX11_meets_1 rfl (fun _ => rfl) (fun v1 M2 z3 => ?_)
  refine s_aload_n (pc := 6) hF dX11_meets_6 rfl rfl ?_
  refine s_callF (pc := 7) (As := []) (st := [.int v1]) (stf := fun r9 => .int r9 :: [.int v1]) (x := ⟨"StoryColumns$Area", "page", "()I"⟩) hF (mX2_page a1) cw_X2_page rfl ⟨by decide, by decide⟩ q389 q395 n_q391 n_q390 n_q396 (List.forall_mem_cons.mpr ⟨⟨(RX2, TX2, 13), rfl, q393, n_q394, n_q392⟩, List.forall_mem_cons.mpr ⟨⟨(RX3, TX3, 14), rfl, q399, n_q400, n_q398⟩, fun _ h9 => absurd h9 List.not_mem_nil⟩⟩) rfl ⟨Nat.le_of_ble_eq_true rfl, Nat.le_of_ble_eq_true rfl⟩ ⟨⟨rfl, trivial⟩, Nat.le_of_ble_eq_true rfl⟩ dX11_meets_7 rfl (fun _ => rfl) (fun v4 M5 z6 => ?_)
  refine s_icmp_ne (pc := 12) hF 79 dX11_meets_12 rfl ?_ ?_
  · refine s_iconst (pc := 79) hF dX11_meets_79 (0 : Int32) (by decide) ?_
    exact s_zretL (pc := 80) hF dX11_meets_80 (by decide)
  · refine s_aload_n (pc := 15) hF dX11_meets_15 rfl rfl ?_
    refine s_callF (pc := 16) (As := []) (st := []) (stf := fun r9 => .int r9 :: []) (x := ⟨"StoryColumns$Area", "left", "()I"⟩) hF (mX2_left a0) cw_X2_left rfl ⟨by decide, by decide⟩ q402 q407 n_q404 n_q403 n_q408 (List.forall_mem_cons.mpr ⟨⟨(RX2, TX2, 13), rfl, q405, n_q406, n_q392⟩, List.forall_mem_cons.mpr ⟨⟨(RX3, TX3, 14), rfl, q410, n_q411, n_q398⟩, fun _ h9 => absurd h9 List.not_mem_nil⟩⟩) rfl ⟨Nat.le_of_ble_eq_true rfl, Nat.le_of_ble_eq_true rfl⟩ ⟨trivial, Nat.le_of_ble_eq_true rfl⟩ dX11_meets_16 rfl (fun _ => rfl) (fun v7 M8 z9 => ?_)
    refine s_aload_n (pc := 21) hF dX11_meets_21 rfl rfl ?_
    refine s_callF (pc := 22) (As := []) (st := [.int v7]) (stf := fun r9 => .int r9 :: [.int v7]) (x := ⟨"StoryColumns$Area", "right", "()I"⟩) hF (mX2_right a1) cw_X2_right rfl ⟨by decide, by decide⟩ q413 q418 n_q415 n_q414 n_q419 (List.forall_mem_cons.mpr ⟨⟨(RX2, TX2, 13), rfl, q416, n_q417, n_q392⟩, List.forall_mem_cons.mpr ⟨⟨(RX3, TX3, 14), rfl, q421, n_q422, n_q398⟩, fun _ h9 => absurd h9 List.not_mem_nil⟩⟩) rfl ⟨Nat.le_of_ble_eq_true rfl, Nat.le_of_ble_eq_true rfl⟩ ⟨⟨rfl, trivial⟩, Nat.le_of_ble_eq_true rfl⟩ dX11_meets_22 rfl (fun _ => rfl) (fun v10 M11 z12 => ?_)
    refine s_icmp_gt (pc := 27) hF 79 dX11_meets_27 rfl ?_ ?_
    · refine s_iconst (pc := 79) hF dX11_meets_79 (0 : Int32) (by decide) ?_
      exact s_zretL (pc := 80) hF dX11_meets_80 (by decide)
    · refine s_aload_n (pc := 30) hF dX11_meets_30 rfl rfl ?_
      refine s_callF (pc := 31) (As := []) (st := []) (stf := fun r9 => .int r9 :: []) (x := ⟨"StoryColumns$Area", "left", "()I"⟩) hF (mX2_left a1) cw_X2_left rfl ⟨by decide, by decide⟩ q402 q407 n_q404 n_q403 n_q408 (List.forall_mem_cons.mpr ⟨⟨(RX2, TX2, 13), rfl, q405, n_q406, n_q392⟩, List.forall_mem_cons.mpr ⟨⟨(RX3, TX3, 14), rfl, q410, n_q411, n_q398⟩, fun _ h9 => absurd h9 List.not_mem_nil⟩⟩) rfl ⟨Nat.le_of_ble_eq_true rfl, Nat.le_of_ble_eq_true rfl⟩ ⟨trivial, Nat.le_of_ble_eq_true rfl⟩ dX11_meets_31 rfl (fun _ => rfl) (fun v13 M14 z15 => ?_)
      refine s_aload_n (pc := 36) hF dX11_meets_36 rfl rfl ?_
      refine s_callF (pc := 37) (As := []) (st := [.int v13]) (stf := fun r9 => .int r9 :: [.int v13]) (x := ⟨"StoryColumns$Area", "right", "()I"⟩) hF (mX2_right a0) cw_X2_right rfl ⟨by decide, by decide⟩ q413 q418 n_q415 n_q414 n_q419 (List.forall_mem_cons.mpr ⟨⟨(RX2, TX2, 13), rfl, q416, n_q417, n_q392⟩, List.forall_mem_cons.mpr ⟨⟨(RX3, TX3, 14), rfl, q421, n_q422, n_q398⟩, fun _ h9 => absurd h9 List.not_mem_nil⟩⟩) rfl ⟨Nat.le_of_ble_eq_true rfl, Nat.le_of_ble_eq_true rfl⟩ ⟨⟨rfl, trivial⟩, Nat.le_of_ble_eq_true rfl⟩ dX11_meets_37 rfl (fun _ => rfl) (fun v16 M17 z18 => ?_)
      refine s_icmp_gt (pc := 42) hF 79 dX11_meets_42 rfl ?_ ?_
      · refine s_iconst (pc := 79) hF dX11_meets_79 (0 : Int32) (by decide) ?_
        exact s_zretL (pc := 80) hF dX11_meets_80 (by decide)
      · refine s_aload_n (pc := 45) hF dX11_meets_45 rfl rfl ?_
        refine s_callF (pc := 46) (As := []) (st := []) (stf := fun r9 => .int r9 :: []) (x := ⟨"StoryColumns$Area", "top", "()I"⟩) hF (mX2_top a0) cw_X2_top rfl ⟨by decide, by decide⟩ q424 q429 n_q426 n_q425 n_q430 (List.forall_mem_cons.mpr ⟨⟨(RX2, TX2, 13), rfl, q427, n_q428, n_q392⟩, List.forall_mem_cons.mpr ⟨⟨(RX3, TX3, 14), rfl, q432, n_q433, n_q398⟩, fun _ h9 => absurd h9 List.not_mem_nil⟩⟩) rfl ⟨Nat.le_of_ble_eq_true rfl, Nat.le_of_ble_eq_true rfl⟩ ⟨trivial, Nat.le_of_ble_eq_true rfl⟩ dX11_meets_46 rfl (fun _ => rfl) (fun v19 M20 z21 => ?_)
        refine s_aload_n (pc := 51) hF dX11_meets_51 rfl rfl ?_
        refine s_callF (pc := 52) (As := []) (st := [.int v19]) (stf := fun r9 => .int r9 :: [.int v19]) (x := ⟨"StoryColumns$Area", "bottom", "()I"⟩) hF (mX2_bottom a1) cw_X2_bottom rfl ⟨by decide, by decide⟩ q435 q440 n_q437 n_q436 n_q441 (List.forall_mem_cons.mpr ⟨⟨(RX2, TX2, 13), rfl, q438, n_q439, n_q392⟩, List.forall_mem_cons.mpr ⟨⟨(RX3, TX3, 14), rfl, q443, n_q444, n_q398⟩, fun _ h9 => absurd h9 List.not_mem_nil⟩⟩) rfl ⟨Nat.le_of_ble_eq_true rfl, Nat.le_of_ble_eq_true rfl⟩ ⟨⟨rfl, trivial⟩, Nat.le_of_ble_eq_true rfl⟩ dX11_meets_52 rfl (fun _ => rfl) (fun v22 M23 z24 => ?_)
        refine s_icmp_gt (pc := 57) hF 79 dX11_meets_57 rfl ?_ ?_
        · refine s_iconst (pc := 79) hF dX11_meets_79 (0 : Int32) (by decide) ?_
          exact s_zretL (pc := 80) hF dX11_meets_80 (by decide)
        · refine s_aload_n (pc := 60) hF dX11_meets_60 rfl rfl ?_
          refine s_callF (pc := 61) (As := []) (st := []) (stf := fun r9 => .int r9 :: []) (x := ⟨"StoryColumns$Area", "top", "()I"⟩) hF (mX2_top a1) cw_X2_top rfl ⟨by decide, by decide⟩ q424 q429 n_q426 n_q425 n_q430 (List.forall_mem_cons.mpr ⟨⟨(RX2, TX2, 13), rfl, q427, n_q428, n_q392⟩, List.forall_mem_cons.mpr ⟨⟨(RX3, TX3, 14), rfl, q432, n_q433, n_q398⟩, fun _ h9 => absurd h9 List.not_mem_nil⟩⟩) rfl ⟨Nat.le_of_ble_eq_true rfl, Nat.le_of_ble_eq_true rfl⟩ ⟨trivial, Nat.le_of_ble_eq_true rfl⟩ dX11_meets_61 rfl (fun _ => rfl) (fun v25 M26 z27 => ?_)
          refine s_aload_n (pc := 66) hF dX11_meets_66 rfl rfl ?_
          refine s_callF (pc := 67) (As := []) (st := [.int v25]) (stf := fun r9 => .int r9 :: [.int v25]) (x := ⟨"StoryColumns$Area", "bottom", "()I"⟩) hF (mX2_bottom a0) cw_X2_bottom rfl ⟨by decide, by decide⟩ q435 q440 n_q437 n_q436 n_q441 (List.forall_mem_cons.mpr ⟨⟨(RX2, TX2, 13), rfl, q438, n_q439, n_q392⟩, List.forall_mem_cons.mpr ⟨⟨(RX3, TX3, 14), rfl, q443, n_q444, n_q398⟩, fun _ h9 => absurd h9 List.not_mem_nil⟩⟩) rfl ⟨Nat.le_of_ble_eq_true rfl, Nat.le_of_ble_eq_true rfl⟩ ⟨⟨rfl, trivial⟩, Nat.le_of_ble_eq_true rfl⟩ dX11_meets_67 rfl (fun _ => rfl) (fun v28 M29 z30 => ?_)
          refine s_icmp_gt (pc := 72) hF 79 dX11_meets_72 rfl ?_ ?_
          · refine s_iconst (pc := 79) hF dX11_meets_79 (0 : Int32) (by decide) ?_
            exact s_zretL (pc := 80) hF dX11_meets_80 (by decide)
          · refine s_iconst (pc := 75) hF dX11_meets_75 (1 : Int32) (by decide) ?_
            refine s_goto (pc := 76) hF 80 dX11_meets_76 rfl ?_
            exact s_zretL (pc := 80) hF dX11_meets_80 (by decide)
theorem mX11_meets (a0 : Option Nat) (a1 : Option Nat) : MTd yX11_meets cX11_meets 2 (Option.some Jvm.ClassFile.FieldType.boolean) 1 20 eI [va_rf a0, va_rf a1] (fX11_meets a0 a1) :=
  MTd.of (L0 := [some (va_rf a0), some (va_rf a1)]) (by decide) ⟨ct _, ⟨ct _, trivial⟩⟩ (Nat.le_of_ble_eq_true rfl) rfl (fun _ _ hF M z => gX11_meets hF a0 a1 M z)

theorem pl_X0_54 {G : Cx} {nL fr lc : Nat} {cc : ByteArray} {ret : Option FieldType} {nm : String} (hF : FX G cc nL RX0 ret nm fr lc) (x9 : Int32) (h01 : x9 = 0 ∨ x9 = 1) : ∀ c ∈ [0], PF G RX0 nm 54 c 2 (.int x9) := by
  obtain ⟨⟨p, l, e, R, s, m, args, below, meth, c0⟩, A, D, dA, mi⟩ := G
  obtain ⟨hx, hb, hml, hown, hts, hr, hlk, hK, hnm, hfr, hlc⟩ := hF
  exact List.forall_mem_cons.mpr ⟨⟨RX0, TX0, 6, "StoryColumns", tyX0 2, rfl, in_X0, Nat.le_of_ble_eq_true rfl, Or.inl ⟨(hts _ q124), Or.inl rfl⟩, fun _ h => h, tyX0_ok 2 (Nat.le_of_ble_eq_true rfl), by rcases h01 with rfl | rfl <;> rfl, by rcases h01 with rfl | rfl <;> rfl, ap_0 hts hK⟩, fun _ h9 => absurd h9 List.not_mem_nil⟩
def fX0_changed (a0 : Option Nat) (a1 : Int32) (M : Mp) (z : Nat) : Rs Int32 := if (0 : Int32) = 0 ∨ (0 : Int32) = 1 then
  ((pu M a0 [0] 2 (.int (0 : Int32))).bind fun M1 =>
some (a1, M1, 0, 0))
else none
theorem gX0_changed {G : Cx} {F : Option Value × Mp × Nat} (hF : FX G cX0_changed 2 RX0 (Option.some Jvm.ClassFile.FieldType.int) "changed" 0 0) (a0 : Option Nat) (a1 : Int32) (M : Mp) (z : Nat) : SK G F 2 eI 0 [some (va_rf a0), some (.int a1)] [] M z (fX0_changed a0 a1 M z) := by
  unfold fX0_changed
  refine s_aload_n (pc := 0) hF dX0_changed_0 rfl rfl ?_
  refine s_iconst (pc := 1) hF dX0_changed_1 (0 : Int32) (by decide) ?_
  refine SK.chk fun h01 => ?_
  refine s_put (pc := 2) hF (pl_X0_54 hF _ h01) dX0_changed_2 (fun M1 => ?_)
  refine s_iload_n (pc := 5) hF dX0_changed_5 rfl rfl ?_
  exact s_iret (pc := 6) hF dX0_changed_6
theorem mX0_changed (a0 : Option Nat) (a1 : Int32) : MT yX0_changed cX0_changed 2 (Option.some Jvm.ClassFile.FieldType.int) 0 0 eI [va_rf a0, .int a1] (fX0_changed a0 a1) :=
  MT.of (L0 := [some (va_rf a0), some (.int a1)]) (by decide) ⟨ct _, ⟨rfl, trivial⟩⟩ (Nat.le_of_ble_eq_true rfl) rfl (fun _ _ hF M z => gX0_changed hF a0 a1 M z)

theorem fl_X0_14 {G : Cx} {nL fr lc : Nat} {cc : ByteArray} {ret : Option FieldType} {nm : String} (hF : FX G cc nL RX0 ret nm fr lc) : ∀ c ∈ [0], GF G RX0 14 c 0 := by
  obtain ⟨⟨p, l, e, R, s, m, args, below, meth, c0⟩, A, D, dA, mi⟩ := G
  obtain ⟨hx, hb, hml, hown, hts, hr, hlk, hK, hnm, hfr, hlc⟩ := hF
  exact List.forall_mem_cons.mpr ⟨⟨RX0, TX0, 6, "StoryColumns", rfl, in_X0, Nat.le_of_ble_eq_true rfl, Or.inl (hts _ q119), fun _ h => h⟩, fun _ h9 => absurd h9 List.not_mem_nil⟩
theorem cw_X0_changed : CWm yX0_changed cX0_changed 2 (Option.some Jvm.ClassFile.FieldType.int) 1 := ⟨q513, q59, by decide +kernel, by decide +kernel, by decide +kernel⟩
theorem cw_J2_add : CWm yJ2_add cJ2_add 2 (Option.some Jvm.ClassFile.FieldType.boolean) 1 := ⟨q453, q62, by decide +kernel, by decide +kernel, by decide +kernel⟩
theorem cw_J3_next : CWm yJ3_next cJ3_next 3 (Option.some (Jvm.ClassFile.FieldType.object "java/lang/Object")) 0 := ⟨q374, q66, by decide +kernel, by decide +kernel, by decide +kernel⟩
theorem cw_J3_hasNext : CWm yJ3_hasNext cJ3_hasNext 1 (Option.some Jvm.ClassFile.FieldType.boolean) 0 := ⟨q327, q66, by decide +kernel, by decide +kernel, by decide +kernel⟩
theorem cw_J2_iterator : CWm yJ2_iterator cJ2_iterator 1 (Option.some (Jvm.ClassFile.FieldType.object "java/util/Iterator")) 0 := ⟨q277, q62, by decide +kernel, by decide +kernel, by decide +kernel⟩
theorem cw_X3_init : CWm yX3_init cX3_init 8 (Option.none : Option Jvm.ClassFile.FieldType) 7 := ⟨q165, q65, by decide +kernel, by decide +kernel, by decide +kernel⟩
theorem cw_J2_size : CWm yJ2_size cJ2_size 1 (Option.some Jvm.ClassFile.FieldType.int) 0 := ⟨q160, q62, by decide +kernel, by decide +kernel, by decide +kernel⟩
theorem cw_X0_isSpan : CWm yX0_isSpan cX0_isSpan 3 (Option.some Jvm.ClassFile.FieldType.boolean) 3 := ⟨q150, q59, by decide +kernel, by decide +kernel, by decide +kernel⟩
def fX0_block_L112 : Nat → Option Nat → Int32 → Option Nat → Option Nat → Mp → Nat → Rs Int32
  | 0, _, _, _, _, _, _ => none
  | fu + 1, l0, l7, l8, l9, M, z => if ckc M l9 [12] = true then
  (cb (fJ3_hasNext l9 M z) z fun v1 M2 z3 =>
if v1 = 0 then
  (if l7 = (24 : Int32) then
  (some ((-4 : Int32), M2, 0, 0))
else
  ((gr M2 l0 [0] 0).bind fun v4 =>
if ckc M2 v4 [11] = true then
  (cb (fJ2_add v4 l8 M2 z3) z3 fun v5 M6 z7 =>
if ckc M6 l0 [0] = true then
  (cb (fX0_changed l0 l7 M6 z7) z7 fun v8 M9 z10 =>
some (v8, M9, 0, 0))
else none)
else none))
else
  (if ckc M2 l9 [12] = true then
  (cb (fJ3_next l9 M2 z3) z3 fun v11 M12 z13 =>
if cst M12 v11 [2, 3] = true then
  (if ckc M12 v11 [2, 3] = true then
  (cb (fX11_meets v11 l8 M12 z13) z13 fun v14 M15 z16 =>
if v14 = 0 then
  (fX0_block_L112 fu l0 l7 l8 l9 M15 z16)
else
  (some ((-3 : Int32), M15, 0, 0)))
else none)
else none)
else none))
else none

theorem gX0_block_L112 {G : Cx} {F : Option Value × Mp × Nat} (hF : FX G cX0_block 11 RX0 (Option.some Jvm.ClassFile.FieldType.int) "block" 11 308) : ∀ (fu : Nat) (l0 : Option Nat) (l7 : Int32) (l8 : Option Nat) (l9 : Option Nat) (M : Mp) (z : Nat), SK G F 11 eI 112 [some (va_rf l0), none, none, none, none, none, none, some (.int l7), some (va_rf l8), some (va_rf l9), none] [] M z (fX0_block_L112 fu l0 l7 l8 l9 M z) := by
  intro fu
  induction fu with
  | zero => intros; exact SK.fail
  | succ fu ih =>
    intro l0 l7 l8 l9 M z
    rw [fX0_block_L112]
    refine s_aload (pc := 112) hF dX0_block_112 rfl ?_
    refine s_callF (pc := 114) (As := []) (st := []) (stf := fun r9 => .int r9 :: []) (x := ⟨"java/util/Iterator", "hasNext", "()Z"⟩) hF (mJ3_hasNext l9) cw_J3_hasNext rfl ⟨by decide, by decide⟩ q298 q325 n_q300 n_q299 n_q326 (List.forall_mem_cons.mpr ⟨⟨(RJ3, TJ3, 4), rfl, q323, n_q324, n_q322⟩, fun _ h9 => absurd h9 List.not_mem_nil⟩) rfl ⟨Nat.le_of_ble_eq_true rfl, Nat.le_of_ble_eq_true rfl⟩ ⟨trivial, Nat.le_of_ble_eq_true rfl⟩ dX0_block_114 rfl (fun _ => rfl) (fun v1 M2 z3 => ?_)
    refine s_if_eq (pc := 119) hF 150 dX0_block_119 rfl ?_ ?_
    · refine s_iload (pc := 150) hF dX0_block_150 rfl ?_
      refine s_bipush (pc := 152) hF dX0_block_152 (24 : Int32) (by decide) ?_
      refine s_icmp_ne (pc := 154) hF 160 dX0_block_154 rfl ?_ ?_
      · refine s_aload_n (pc := 160) hF dX0_block_160 rfl rfl ?_
        refine s_getr (pc := 161) hF (fl_X0_14 hF) dX0_block_161 (fun v4 => ?_)
        refine s_aload (pc := 164) hF dX0_block_164 rfl ?_
        refine s_callF (pc := 166) (As := [va_rf l8]) (st := []) (stf := fun r9 => .int r9 :: []) (x := ⟨"java/util/List", "add", "(Ljava/lang/Object;)Z"⟩) hF (mJ2_add v4 l8) cw_J2_add rfl ⟨by decide, by decide⟩ q446 q451 n_q448 n_q447 n_q452 (List.forall_mem_cons.mpr ⟨⟨(RJ2, TJ2, 3), rfl, q449, n_q450, n_q155⟩, fun _ h9 => absurd h9 List.not_mem_nil⟩) rfl ⟨Nat.le_of_ble_eq_true rfl, Nat.le_of_ble_eq_true rfl⟩ ⟨trivial, Nat.le_of_ble_eq_true rfl⟩ dX0_block_166 rfl (fun _ => rfl) (fun v5 M6 z7 => ?_)
        refine s_pop (pc := 171) hF dX0_block_171 rfl ?_
        refine s_aload_n (pc := 172) hF dX0_block_172 rfl rfl ?_
        refine s_iload (pc := 173) hF dX0_block_173 rfl ?_
        refine s_callV (pc := 175) (As := [.int l7]) (st := []) (stf := fun r9 => .int r9 :: []) hF (mX0_changed l0 l7) cw_X0_changed q510 q512 (List.forall_mem_cons.mpr ⟨⟨(RX0, TX0, 6), rfl, qs4⟩, fun _ h9 => absurd h9 List.not_mem_nil⟩) rfl ⟨Nat.le_of_ble_eq_true rfl, Nat.le_of_ble_eq_true rfl⟩ ⟨trivial, Nat.le_of_ble_eq_true rfl⟩ dX0_block_175 rfl (fun _ => rfl) (fun v8 M9 z10 => ?_)
        exact s_iret (pc := 178) hF dX0_block_178
      · refine s_bipush (pc := 157) hF dX0_block_157 (-4 : Int32) (by decide) ?_
        exact s_iret (pc := 159) hF dX0_block_159
    · refine s_aload (pc := 122) hF dX0_block_122 rfl ?_
      refine s_callF (pc := 124) (As := []) (st := []) (stf := fun r9 => va_rf r9 :: []) (x := ⟨"java/util/Iterator", "next", "()Ljava/lang/Object;"⟩) hF (mJ3_next l9) cw_J3_next rfl ⟨by decide, by decide⟩ q381 q372 n_q331 n_q330 n_q373 (List.forall_mem_cons.mpr ⟨⟨(RJ3, TJ3, 4), rfl, q370, n_q371, n_q322⟩, fun _ h9 => absurd h9 List.not_mem_nil⟩) rfl ⟨Nat.le_of_ble_eq_true rfl, Nat.le_of_ble_eq_true rfl⟩ ⟨trivial, Nat.le_of_ble_eq_true rfl⟩ dX0_block_124 rfl (fun _ => rfl) (fun v11 M12 z13 => ?_)
      refine s_cast (pc := 129) hF q252 (List.forall_mem_cons.mpr ⟨⟨(RX2, TX2, 13), rfl, Or.inl rfl⟩, List.forall_mem_cons.mpr ⟨⟨(RX3, TX3, 14), rfl, Or.inr n_q1359⟩, fun _ h9 => absurd h9 List.not_mem_nil⟩⟩) dX0_block_129 ?_
      refine s_astore (L9 := [some (va_rf l0), none, none, none, none, none, none, some (.int l7), some (va_rf l8), some (va_rf l9), some (va_rf v11)]) (pc := 132) hF dX0_block_132 (Nat.le_of_ble_eq_true rfl) rfl ?_
      refine s_aload (pc := 134) hF dX0_block_134 rfl ?_
      refine s_aload (pc := 136) hF dX0_block_136 rfl ?_
      refine s_callD (pc := 138) (As := [va_rf l8]) (st := []) (stf := fun r9 => .int r9 :: []) hF (mX11_meets v11 l8) q387 q385 n_d0 n_d1 (fun _ _ _ _ h => h.2.2.2.2.2.2.1) (by show _ = some 1; decide +kernel) ⟨Nat.le_of_ble_eq_true rfl, Nat.le_of_ble_eq_true rfl⟩ ⟨trivial, Nat.le_of_ble_eq_true rfl⟩ dX0_block_138 rfl (fun _ => rfl) (fun v14 M15 z16 => ?_)
      refine s_if_eq (pc := 141) hF 147 dX0_block_141 rfl ?_ ?_
      · refine s_goto (pc := 147) hF 112 dX0_block_147 rfl ?_
        exact SK.sb (ih l0 l7 l8 l9 M15 z16) ⟨rfl, ⟨rfl, ⟨rfl, ⟨rfl, trivial⟩⟩⟩⟩
      · refine s_bipush (pc := 144) hF dX0_block_144 (-3 : Int32) (by decide) ?_
        exact s_iret (pc := 146) hF dX0_block_146

def fX0_block_J99 (l0 : Option Nat) (l7 : Int32) (s0 : Option Nat) (M : Mp) (z : Nat) : Rs Int32 := (gr M l0 [0] 0).bind fun v1 =>
if ckc M v1 [11] = true then
  (cb (fJ2_iterator v1 M z) z fun v2 M3 z4 =>
fX0_block_L112 FU l0 l7 s0 v2 M3 z4)
else none

theorem gX0_block_J99 {G : Cx} {F : Option Value × Mp × Nat} (hF : FX G cX0_block 11 RX0 (Option.some Jvm.ClassFile.FieldType.int) "block" 11 308) (l0 : Option Nat) (l7 : Int32) (s0 : Option Nat) (M : Mp) (z : Nat) : SK G F 11 eI 99 [some (va_rf l0), none, none, none, none, none, none, some (.int l7), none, none, none] [va_rf s0] M z (fX0_block_J99 l0 l7 s0 M z) := by
  unfold fX0_block_J99
  refine s_astore (L9 := [some (va_rf l0), none, none, none, none, none, none, some (.int l7), some (va_rf s0), none, none]) (pc := 99) hF dX0_block_99 (Nat.le_of_ble_eq_true rfl) rfl ?_
  refine s_aload_n (pc := 101) hF dX0_block_101 rfl rfl ?_
  refine s_getr (pc := 102) hF (fl_X0_14 hF) dX0_block_102 (fun v1 => ?_)
  refine s_callF (pc := 105) (As := []) (st := []) (stf := fun r9 => va_rf r9 :: []) (x := ⟨"java/util/List", "iterator", "()Ljava/util/Iterator;"⟩) hF (mJ2_iterator v1) cw_J2_iterator rfl ⟨by decide, by decide⟩ q270 q275 n_q272 n_q271 n_q276 (List.forall_mem_cons.mpr ⟨⟨(RJ2, TJ2, 3), rfl, q273, n_q274, n_q155⟩, fun _ h9 => absurd h9 List.not_mem_nil⟩) rfl ⟨Nat.le_of_ble_eq_true rfl, Nat.le_of_ble_eq_true rfl⟩ ⟨trivial, Nat.le_of_ble_eq_true rfl⟩ dX0_block_105 rfl (fun _ => rfl) (fun v2 M3 z4 => ?_)
  refine s_astore (L9 := [some (va_rf l0), none, none, none, none, none, none, some (.int l7), some (va_rf s0), some (va_rf v2), none]) (pc := 110) hF dX0_block_110 (Nat.le_of_ble_eq_true rfl) rfl ?_
  exact SK.sb (gX0_block_L112 hF FU l0 l7 s0 v2 M3 z4) ⟨rfl, ⟨rfl, ⟨rfl, ⟨rfl, trivial⟩⟩⟩⟩
def fX0_block (a0 : Option Nat) (a1 : Int32) (a2 : Int32) (a3 : Int32) (a4 : Int32) (a5 : Int32) (a6 : Int32) (M : Mp) (z : Nat) : Rs Int32 := cb (fX0_in a1 (0 : Int32) (3 : Int32) M z) z fun v1 M2 z3 =>
if v1 = 0 then
  (some ((-2 : Int32), M2, 0, 0))
else
  (cb (fX0_in a2 (0 : Int32) (2 : Int32) M2 z3) z3 fun v4 M5 z6 =>
if v4 = 0 then
  (some ((-2 : Int32), M5, 0, 0))
else
  (cb (fX0_isSpan a3 a4 (7 : Int32) M5 z6) z6 fun v7 M8 z9 =>
if v7 = 0 then
  (some ((-2 : Int32), M8, 0, 0))
else
  (cb (fX0_isSpan a5 a6 (29 : Int32) M8 z9) z9 fun v10 M11 z12 =>
if v10 = 0 then
  (some ((-2 : Int32), M11, 0, 0))
else
  ((gr M11 a0 [0] 0).bind fun v13 =>
if ckc M11 v13 [11] = true then
  (cb (fJ2_size v13 M11 z12) z12 fun v14 M15 z16 =>
if a2 = 0 then
  (nwo 3 14 [.int 0, .int 0, .int 0, .int 0, .int 0, .int 0, .int 0, .int 0, .null, .null, .null, .null, .null, .null] M15 z16 fun M22 z23 =>
if (some z16) = none then none else
  (cb (fX3_init (some z16) a0 v14 a1 a3 a4 a5 a6 M22 z23) z23 fun _ M25 z26 =>
fX0_block_J99 a0 v14 (some z16) M25 z26))
else
  (nwo 2 13 [.int 0, .int 0, .int 0, .int 0, .int 0, .int 0, .int 0, .int 0, .null, .null, .null, .null, .null] M15 z16 fun M17 z18 =>
if (some z16) = none then none else
  (cb (fX2_init (some z16) a0 v14 a1 a2 a3 a4 a5 a6 M17 z18) z18 fun _ M20 z21 =>
fX0_block_J99 a0 v14 (some z16) M20 z21)))
else none))))
theorem gX0_block {G : Cx} {F : Option Value × Mp × Nat} (hF : FX G cX0_block 11 RX0 (Option.some Jvm.ClassFile.FieldType.int) "block" 11 308) (a0 : Option Nat) (a1 : Int32) (a2 : Int32) (a3 : Int32) (a4 : Int32) (a5 : Int32) (a6 : Int32) (M : Mp) (z : Nat) : SK G F 11 eI 0 [some (va_rf a0), some (.int a1), some (.int a2), some (.int a3), some (.int a4), some (.int a5), some (.int a6), none, none, none, none] [] M z (fX0_block a0 a1 a2 a3 a4 a5 a6 M z) := by
  unfold fX0_block
  refine s_iload_n (pc := 0) hF dX0_block_0 rfl rfl ?_
  refine s_iconst (pc := 1) hF dX0_block_1 (0 : Int32) (by decide) ?_
  refine s_iconst (pc := 2) hF dX0_block_2 (3 : Int32) (by decide) ?_
  refine s_callS (pc := 3) (As := [.int a1, .int (0 : Int32), .int (3 : Int32)]) (st := []) (stf := fun r9 => .int r9 :: []) hF (mX0_in a1 (0 : Int32) (3 : Int32)) cw_X0_in q145 q146 rfl ⟨Nat.le_of_ble_eq_true rfl, Nat.le_of_ble_eq_true rfl⟩ ⟨trivial, Nat.le_of_ble_eq_true rfl⟩ dX0_block_3 rfl (fun _ => rfl) (fun v1 M2 z3 => ?_)
  refine s_if_eq (pc := 6) hF 41 dX0_block_6 rfl ?_ ?_
  · refine s_bipush (pc := 41) hF dX0_block_41 (-2 : Int32) (by decide) ?_
    exact s_iret (pc := 43) hF dX0_block_43
  · refine s_iload_n (pc := 9) hF dX0_block_9 rfl rfl ?_
    refine s_iconst (pc := 10) hF dX0_block_10 (0 : Int32) (by decide) ?_
    refine s_iconst (pc := 11) hF dX0_block_11 (2 : Int32) (by decide) ?_
    refine s_callS (pc := 12) (As := [.int a2, .int (0 : Int32), .int (2 : Int32)]) (st := []) (stf := fun r9 => .int r9 :: []) hF (mX0_in a2 (0 : Int32) (2 : Int32)) cw_X0_in q145 q146 rfl ⟨Nat.le_of_ble_eq_true rfl, Nat.le_of_ble_eq_true rfl⟩ ⟨trivial, Nat.le_of_ble_eq_true rfl⟩ dX0_block_12 rfl (fun _ => rfl) (fun v4 M5 z6 => ?_)
    refine s_if_eq (pc := 15) hF 41 dX0_block_15 rfl ?_ ?_
    · refine s_bipush (pc := 41) hF dX0_block_41 (-2 : Int32) (by decide) ?_
      exact s_iret (pc := 43) hF dX0_block_43
    · refine s_iload_n (pc := 18) hF dX0_block_18 rfl rfl ?_
      refine s_iload (pc := 19) hF dX0_block_19 rfl ?_
      refine s_bipush (pc := 21) hF dX0_block_21 (7 : Int32) (by decide) ?_
      refine s_callS (pc := 23) (As := [.int a3, .int a4, .int (7 : Int32)]) (st := []) (stf := fun r9 => .int r9 :: []) hF (mX0_isSpan a3 a4 (7 : Int32)) cw_X0_isSpan q148 q149 rfl ⟨Nat.le_of_ble_eq_true rfl, Nat.le_of_ble_eq_true rfl⟩ ⟨trivial, Nat.le_of_ble_eq_true rfl⟩ dX0_block_23 rfl (fun _ => rfl) (fun v7 M8 z9 => ?_)
      refine s_if_eq (pc := 26) hF 41 dX0_block_26 rfl ?_ ?_
      · refine s_bipush (pc := 41) hF dX0_block_41 (-2 : Int32) (by decide) ?_
        exact s_iret (pc := 43) hF dX0_block_43
      · refine s_iload (pc := 29) hF dX0_block_29 rfl ?_
        refine s_iload (pc := 31) hF dX0_block_31 rfl ?_
        refine s_bipush (pc := 33) hF dX0_block_33 (29 : Int32) (by decide) ?_
        refine s_callS (pc := 35) (As := [.int a5, .int a6, .int (29 : Int32)]) (st := []) (stf := fun r9 => .int r9 :: []) hF (mX0_isSpan a5 a6 (29 : Int32)) cw_X0_isSpan q148 q149 rfl ⟨Nat.le_of_ble_eq_true rfl, Nat.le_of_ble_eq_true rfl⟩ ⟨trivial, Nat.le_of_ble_eq_true rfl⟩ dX0_block_35 rfl (fun _ => rfl) (fun v10 M11 z12 => ?_)
        refine s_if_ne (pc := 38) hF 44 dX0_block_38 rfl ?_ ?_
        · refine s_aload_n (pc := 44) hF dX0_block_44 rfl rfl ?_
          refine s_getr (pc := 45) hF (fl_X0_14 hF) dX0_block_45 (fun v13 => ?_)
          refine s_callF (pc := 48) (As := []) (st := []) (stf := fun r9 => .int r9 :: []) (x := ⟨"java/util/List", "size", "()I"⟩) hF (mJ2_size v13) cw_J2_size rfl ⟨by decide, by decide⟩ q152 q158 n_q154 n_q153 n_q159 (List.forall_mem_cons.mpr ⟨⟨(RJ2, TJ2, 3), rfl, q156, n_q157, n_q155⟩, fun _ h9 => absurd h9 List.not_mem_nil⟩) rfl ⟨Nat.le_of_ble_eq_true rfl, Nat.le_of_ble_eq_true rfl⟩ ⟨trivial, Nat.le_of_ble_eq_true rfl⟩ dX0_block_48 rfl (fun _ => rfl) (fun v14 M15 z16 => ?_)
          refine s_istore (L9 := [some (va_rf a0), some (.int a1), some (.int a2), some (.int a3), some (.int a4), some (.int a5), some (.int a6), some (.int v14), none, none, none]) (pc := 53) hF dX0_block_53 (Nat.le_of_ble_eq_true rfl) rfl ?_
          refine s_iload_n (pc := 55) hF dX0_block_55 rfl rfl ?_
          refine s_if_ne (pc := 56) hF 80 dX0_block_56 rfl ?_ ?_
          · refine s_nwo (pc := 80) hF dX0_block_80 rfl in_X2 tyX2 tyX2_ok q252 q253 q64 (fun j hj => by rcases (show j = 0 ∨ j = 1 ∨ j = 2 ∨ j = 3 ∨ j = 4 ∨ j = 5 ∨ j = 6 ∨ j = 7 ∨ j = 8 ∨ j = 9 ∨ j = 10 ∨ j = 11 ∨ j = 12 by omega) with rfl | rfl | rfl | rfl | rfl | rfl | rfl | rfl | rfl | rfl | rfl | rfl | rfl <;> rfl) (fun M17 z18 => ?_)
            refine s_dup (pc := 83) hF dX0_block_83 (ct _) ?_
            refine s_aload_n (pc := 84) hF dX0_block_84 rfl rfl ?_
            refine s_iload (pc := 85) hF dX0_block_85 rfl ?_
            refine s_iload_n (pc := 87) hF dX0_block_87 rfl rfl ?_
            refine s_iload_n (pc := 88) hF dX0_block_88 rfl rfl ?_
            refine s_iload_n (pc := 89) hF dX0_block_89 rfl rfl ?_
            refine s_iload (pc := 90) hF dX0_block_90 rfl ?_
            refine s_iload (pc := 92) hF dX0_block_92 rfl ?_
            refine s_iload (pc := 94) hF dX0_block_94 rfl ?_
            refine s_callJ (pc := 96) (As := [va_rf a0, .int v14, .int a1, .int a2, .int a3, .int a4, .int a5, .int a6]) (st := [va_rf (some z16)]) (stf := fun r9 => [va_rf (some z16)]) hF (mX2_init (some z16) a0 v14 a1 a2 a3 a4 a5 a6) cw_X2_init q254 q167 rfl rfl ⟨Nat.le_of_ble_eq_true rfl, Nat.le_of_ble_eq_true rfl⟩ ⟨⟨ct _, trivial⟩, Nat.le_of_ble_eq_true rfl⟩ dX0_block_96 rfl (fun _ => rfl) (fun v19 M20 z21 => ?_)
            exact SK.sb (gX0_block_J99 hF a0 v14 (some z16) M20 z21) ⟨rfl, ⟨rfl, trivial⟩⟩
          · refine s_nwo (pc := 59) hF dX0_block_59 rfl in_X3 tyX3 tyX3_ok q161 q162 q65 (fun j hj => by rcases (show j = 0 ∨ j = 1 ∨ j = 2 ∨ j = 3 ∨ j = 4 ∨ j = 5 ∨ j = 6 ∨ j = 7 ∨ j = 8 ∨ j = 9 ∨ j = 10 ∨ j = 11 ∨ j = 12 ∨ j = 13 by omega) with rfl | rfl | rfl | rfl | rfl | rfl | rfl | rfl | rfl | rfl | rfl | rfl | rfl | rfl <;> rfl) (fun M22 z23 => ?_)
            refine s_dup (pc := 62) hF dX0_block_62 (ct _) ?_
            refine s_aload_n (pc := 63) hF dX0_block_63 rfl rfl ?_
            refine s_iload (pc := 64) hF dX0_block_64 rfl ?_
            refine s_iload_n (pc := 66) hF dX0_block_66 rfl rfl ?_
            refine s_iload_n (pc := 67) hF dX0_block_67 rfl rfl ?_
            refine s_iload (pc := 68) hF dX0_block_68 rfl ?_
            refine s_iload (pc := 70) hF dX0_block_70 rfl ?_
            refine s_iload (pc := 72) hF dX0_block_72 rfl ?_
            refine s_callJ (pc := 74) (As := [va_rf a0, .int v14, .int a1, .int a3, .int a4, .int a5, .int a6]) (st := [va_rf (some z16)]) (stf := fun r9 => [va_rf (some z16)]) hF (mX3_init (some z16) a0 v14 a1 a3 a4 a5 a6) cw_X3_init q163 q164 rfl rfl ⟨Nat.le_of_ble_eq_true rfl, Nat.le_of_ble_eq_true rfl⟩ ⟨⟨ct _, trivial⟩, Nat.le_of_ble_eq_true rfl⟩ dX0_block_74 rfl (fun _ => rfl) (fun v24 M25 z26 => ?_)
            refine s_goto (pc := 77) hF 99 dX0_block_77 rfl ?_
            exact SK.sb (gX0_block_J99 hF a0 v14 (some z16) M25 z26) ⟨rfl, ⟨rfl, trivial⟩⟩
        · refine s_bipush (pc := 41) hF dX0_block_41 (-2 : Int32) (by decide) ?_
          exact s_iret (pc := 43) hF dX0_block_43
theorem mX0_block (a0 : Option Nat) (a1 : Int32) (a2 : Int32) (a3 : Int32) (a4 : Int32) (a5 : Int32) (a6 : Int32) : MT yX0_block cX0_block 11 (Option.some Jvm.ClassFile.FieldType.int) 11 308 eI [va_rf a0, .int a1, .int a2, .int a3, .int a4, .int a5, .int a6] (fX0_block a0 a1 a2 a3 a4 a5 a6) :=
  MT.of (L0 := [some (va_rf a0), some (.int a1), some (.int a2), some (.int a3), some (.int a4), some (.int a5), some (.int a6), none, none, none, none]) (by decide) ⟨ct _, ⟨rfl, ⟨rfl, ⟨rfl, ⟨rfl, ⟨rfl, ⟨rfl, trivial⟩⟩⟩⟩⟩⟩⟩ (Nat.le_of_ble_eq_true rfl) rfl (fun _ _ hF M z => gX0_block hF a0 a1 a2 a3 a4 a5 a6 M z)

def fX0_isBlock (a0 : Option Nat) (a1 : Int32) (M : Mp) (z : Nat) : Rs Int32 := (gr M a0 [0] 0).bind fun v1 =>
if ckc M v1 [11] = true then
  (cb (fJ2_size v1 M z) z fun v2 M3 z4 =>
cb (fX0_in a1 (0 : Int32) (v2 - (1 : Int32)) M3 z4) z4 fun v5 M6 z7 =>
if v5 = 0 ∨ v5 = 1 then some (v5, M6, 0, 0) else none)
else none
theorem gX0_isBlock {G : Cx} {F : Option Value × Mp × Nat} (hF : FX G cX0_isBlock 2 RX0 (Option.some Jvm.ClassFile.FieldType.boolean) "isBlock" 1 22) (a0 : Option Nat) (a1 : Int32) (M : Mp) (z : Nat) : SK G F 2 eI 0 [some (va_rf a0), some (.int a1)] [] M z (fX0_isBlock a0 a1 M z) := by
  unfold fX0_isBlock
  refine s_iload_n (pc := 0) hF dX0_isBlock_0 rfl rfl ?_
  refine s_iconst (pc := 1) hF dX0_isBlock_1 (0 : Int32) (by decide) ?_
  refine s_aload_n (pc := 2) hF dX0_isBlock_2 rfl rfl ?_
  refine s_getr (pc := 3) hF (fl_X0_14 hF) dX0_isBlock_3 (fun v1 => ?_)
  refine s_callF (pc := 6) (As := []) (st := [.int (0 : Int32), .int a1]) (stf := fun r9 => .int r9 :: [.int (0 : Int32), .int a1]) (x := ⟨"java/util/List", "size", "()I"⟩) hF (mJ2_size v1) cw_J2_size rfl ⟨by decide, by decide⟩ q152 q158 n_q154 n_q153 n_q159 (List.forall_mem_cons.mpr ⟨⟨(RJ2, TJ2, 3), rfl, q156, n_q157, n_q155⟩, fun _ h9 => absurd h9 List.not_mem_nil⟩) rfl ⟨Nat.le_of_ble_eq_true rfl, Nat.le_of_ble_eq_true rfl⟩ ⟨⟨rfl, ⟨rfl, trivial⟩⟩, Nat.le_of_ble_eq_true rfl⟩ dX0_isBlock_6 rfl (fun _ => rfl) (fun v2 M3 z4 => ?_)
  refine s_iconst (pc := 11) hF dX0_isBlock_11 (1 : Int32) (by decide) ?_
  refine s_isub (pc := 12) hF dX0_isBlock_12 ?_
  refine s_callS (pc := 13) (As := [.int a1, .int (0 : Int32), .int (v2 - (1 : Int32))]) (st := []) (stf := fun r9 => .int r9 :: []) hF (mX0_in a1 (0 : Int32) (v2 - (1 : Int32))) cw_X0_in q145 q146 rfl ⟨Nat.le_of_ble_eq_true rfl, Nat.le_of_ble_eq_true rfl⟩ ⟨trivial, Nat.le_of_ble_eq_true rfl⟩ dX0_isBlock_13 rfl (fun _ => rfl) (fun v5 M6 z7 => ?_)
  exact s_zret (pc := 16) hF dX0_isBlock_16
theorem mX0_isBlock (a0 : Option Nat) (a1 : Int32) : MT yX0_isBlock cX0_isBlock 2 (Option.some Jvm.ClassFile.FieldType.boolean) 1 22 eI [va_rf a0, .int a1] (fX0_isBlock a0 a1) :=
  MT.of (L0 := [some (va_rf a0), some (.int a1)]) (by decide) ⟨ct _, ⟨rfl, trivial⟩⟩ (Nat.le_of_ble_eq_true rfl) rfl (fun _ _ hF M z => gX0_isBlock hF a0 a1 M z)

theorem fl_X2_31 {G : Cx} {nL fr lc : Nat} {cc : ByteArray} {ret : Option FieldType} {nm : String} (hF : FX G cc nL RX2 ret nm fr lc) : ∀ c ∈ [2, 3], GF G RX2 31 c 2 := by
  obtain ⟨⟨p, l, e, R, s, m, args, below, meth, c0⟩, A, D, dA, mi⟩ := G
  obtain ⟨hx, hb, hml, hown, hts, hr, hlk, hK, hnm, hfr, hlc⟩ := hF
  exact List.forall_mem_cons.mpr ⟨⟨RX2, TX2, 13, "StoryColumns$Block", rfl, in_X2, Nat.le_of_ble_eq_true rfl, Or.inl (hts _ q185), fun _ h => h⟩, List.forall_mem_cons.mpr ⟨⟨RX3, TX3, 14, "StoryColumns$Block", rfl, in_X3, Nat.le_of_ble_eq_true rfl, Or.inl (hts _ q185), fun _ h => h⟩, fun _ h9 => absurd h9 List.not_mem_nil⟩⟩
def fX2_isText (a0 : Option Nat) (M : Mp) (z : Nat) : Rs Int32 := (gi M a0 [2, 3] 2).bind fun v1 =>
if v1 = (1 : Int32) then
  (some ((1 : Int32), M, 0, 0))
else
  (some ((0 : Int32), M, 0, 0))
theorem gX2_isText {G : Cx} {F : Option Value × Mp × Nat} (hF : FX G cX2_isText 1 RX2 (Option.some Jvm.ClassFile.FieldType.boolean) "isText" 0 0) (a0 : Option Nat) (M : Mp) (z : Nat) : SK G F 1 eI 0 [some (va_rf a0)] [] M z (fX2_isText a0 M z) := by
  unfold fX2_isText
  refine s_aload_n (pc := 0) hF dX2_isText_0 rfl rfl ?_
  refine s_geti (pc := 1) hF (fl_X2_31 hF) dX2_isText_1 (fun v1 => ?_)
  refine s_iconst (pc := 4) hF dX2_isText_4 (1 : Int32) (by decide) ?_
  refine s_icmp_ne (pc := 5) hF 12 dX2_isText_5 rfl ?_ ?_
  · refine s_iconst (pc := 12) hF dX2_isText_12 (0 : Int32) (by decide) ?_
    exact s_zretL (pc := 13) hF dX2_isText_13 (by decide)
  · refine s_iconst (pc := 8) hF dX2_isText_8 (1 : Int32) (by decide) ?_
    refine s_goto (pc := 9) hF 13 dX2_isText_9 rfl ?_
    exact s_zretL (pc := 13) hF dX2_isText_13 (by decide)
theorem mX2_isText (a0 : Option Nat) : MT yX2_isText cX2_isText 1 (Option.some Jvm.ClassFile.FieldType.boolean) 0 0 eI [va_rf a0] (fX2_isText a0) :=
  MT.of (L0 := [some (va_rf a0)]) (by decide) ⟨ct _, trivial⟩ (Nat.le_of_ble_eq_true rfl) rfl (fun _ _ hF M z => gX2_isText hF a0 M z)

theorem fl_X0_104 {G : Cx} {nL fr lc : Nat} {cc : ByteArray} {ret : Option FieldType} {nm : String} (hF : FX G cc nL RX0 ret nm fr lc) : ∀ c ∈ [2, 3], GF G RX0 104 c 7 := by
  obtain ⟨⟨p, l, e, R, s, m, args, below, meth, c0⟩, A, D, dA, mi⟩ := G
  obtain ⟨hx, hb, hml, hown, hts, hr, hlk, hK, hnm, hfr, hlc⟩ := hF
  exact List.forall_mem_cons.mpr ⟨⟨RX2, TX2, 13, "StoryColumns$Block", rfl, in_X2, Nat.le_of_ble_eq_true rfl, Or.inl (hts _ q207), fun _ h => h⟩, List.forall_mem_cons.mpr ⟨⟨RX3, TX3, 14, "StoryColumns$Block", rfl, in_X3, Nat.le_of_ble_eq_true rfl, Or.inl (hts _ q207), fun _ h => h⟩, fun _ h9 => absurd h9 List.not_mem_nil⟩⟩
theorem pl_X0_104 {G : Cx} {nL fr lc : Nat} {cc : ByteArray} {ret : Option FieldType} {nm : String} (hF : FX G cc nL RX0 ret nm fr lc) (x9 : Int32) : ∀ c ∈ [2, 3], PF G RX0 nm 104 c 7 (.int x9) := by
  obtain ⟨⟨p, l, e, R, s, m, args, below, meth, c0⟩, A, D, dA, mi⟩ := G
  obtain ⟨hx, hb, hml, hown, hts, hr, hlk, hK, hnm, hfr, hlc⟩ := hF
  exact List.forall_mem_cons.mpr ⟨⟨RX2, TX2, 13, "StoryColumns$Block", tyX2 7, rfl, in_X2, Nat.le_of_ble_eq_true rfl, Or.inl ⟨(hts _ q207), Or.inl rfl⟩, fun _ h => h, tyX2_ok 7 (Nat.le_of_ble_eq_true rfl), rfl, rfl, ap_2 hts hK⟩, List.forall_mem_cons.mpr ⟨⟨RX3, TX3, 14, "StoryColumns$Block", tyX3 7, rfl, in_X3, Nat.le_of_ble_eq_true rfl, Or.inl ⟨(hts _ q207), Or.inl rfl⟩, fun _ h => h, tyX3_ok 7 (Nat.le_of_ble_eq_true rfl), rfl, rfl, ap_3 hts hK⟩, fun _ h9 => absurd h9 List.not_mem_nil⟩⟩
theorem cw_X2_isText : CWm yX2_isText cX2_isText 1 (Option.some Jvm.ClassFile.FieldType.boolean) 0 := ⟨q529, q64, by decide +kernel, by decide +kernel, by decide +kernel⟩
theorem cw_J2_get : CWm yJ2_get cJ2_get 2 (Option.some (Jvm.ClassFile.FieldType.object "java/lang/Object")) 1 := ⟨q358, q62, by decide +kernel, by decide +kernel, by decide +kernel⟩
theorem cw_X0_isBlock : CWm yX0_isBlock cX0_isBlock 2 (Option.some Jvm.ClassFile.FieldType.boolean) 1 := ⟨q521, q59, by decide +kernel, by decide +kernel, by decide +kernel⟩
def fX0_words (a0 : Option Nat) (a1 : Int32) (a2 : Int32) (M : Mp) (z : Nat) : Rs Int32 := if ckc M a0 [0] = true then
  (cb (fX0_isBlock a0 a1 M z) z fun v1 M2 z3 =>
if v1 = 0 then
  (some ((-1 : Int32), M2, 0, 0))
else
  (cb (fX0_in a2 (1 : Int32) (99 : Int32) M2 z3) z3 fun v4 M5 z6 =>
if v4 = 0 then
  (some ((-2 : Int32), M5, 0, 0))
else
  ((gr M5 a0 [0] 0).bind fun v7 =>
if ckc M5 v7 [11] = true then
  (cb (fJ2_get v7 a1 M5 z6) z6 fun v8 M9 z10 =>
if cst M9 v8 [2, 3] = true then
  (if ckc M9 v8 [2, 3] = true then
  (cb (fX2_isText v8 M9 z10) z10 fun v11 M12 z13 =>
if v11 = 0 then
  (some ((-3 : Int32), M12, 0, 0))
else
  ((gi M12 v8 [2, 3] 7).bind fun v14 =>
(pu M12 v8 [2, 3] 7 (.int a2)).bind fun M15 =>
some (v14, M15, 0, 0)))
else none)
else none)
else none)))
else none
theorem gX0_words {G : Cx} {F : Option Value × Mp × Nat} (hF : FX G cX0_words 5 RX0 (Option.some Jvm.ClassFile.FieldType.int) "words" 3 64) (a0 : Option Nat) (a1 : Int32) (a2 : Int32) (M : Mp) (z : Nat) : SK G F 5 eI 0 [some (va_rf a0), some (.int a1), some (.int a2), none, none] [] M z (fX0_words a0 a1 a2 M z) := by
  unfold fX0_words
  refine s_aload_n (pc := 0) hF dX0_words_0 rfl rfl ?_
  refine s_iload_n (pc := 1) hF dX0_words_1 rfl rfl ?_
  refine s_callV (pc := 2) (As := [.int a1]) (st := []) (stf := fun r9 => .int r9 :: []) hF (mX0_isBlock a0 a1) cw_X0_isBlock q518 q520 (List.forall_mem_cons.mpr ⟨⟨(RX0, TX0, 6), rfl, qs5⟩, fun _ h9 => absurd h9 List.not_mem_nil⟩) rfl ⟨Nat.le_of_ble_eq_true rfl, Nat.le_of_ble_eq_true rfl⟩ ⟨trivial, Nat.le_of_ble_eq_true rfl⟩ dX0_words_2 rfl (fun _ => rfl) (fun v1 M2 z3 => ?_)
  refine s_if_ne (pc := 5) hF 10 dX0_words_5 rfl ?_ ?_
  · refine s_iload_n (pc := 10) hF dX0_words_10 rfl rfl ?_
    refine s_iconst (pc := 11) hF dX0_words_11 (1 : Int32) (by decide) ?_
    refine s_bipush (pc := 12) hF dX0_words_12 (99 : Int32) (by decide) ?_
    refine s_callS (pc := 14) (As := [.int a2, .int (1 : Int32), .int (99 : Int32)]) (st := []) (stf := fun r9 => .int r9 :: []) hF (mX0_in a2 (1 : Int32) (99 : Int32)) cw_X0_in q145 q146 rfl ⟨Nat.le_of_ble_eq_true rfl, Nat.le_of_ble_eq_true rfl⟩ ⟨trivial, Nat.le_of_ble_eq_true rfl⟩ dX0_words_14 rfl (fun _ => rfl) (fun v4 M5 z6 => ?_)
    refine s_if_ne (pc := 17) hF 23 dX0_words_17 rfl ?_ ?_
    · refine s_aload_n (pc := 23) hF dX0_words_23 rfl rfl ?_
      refine s_getr (pc := 24) hF (fl_X0_14 hF) dX0_words_24 (fun v7 => ?_)
      refine s_iload_n (pc := 27) hF dX0_words_27 rfl rfl ?_
      refine s_callF (pc := 28) (As := [.int a1]) (st := []) (stf := fun r9 => va_rf r9 :: []) (x := ⟨"java/util/List", "get", "(I)Ljava/lang/Object;"⟩) hF (mJ2_get v7 a1) cw_J2_get rfl ⟨by decide, by decide⟩ q523 q356 n_q353 n_q352 n_q357 (List.forall_mem_cons.mpr ⟨⟨(RJ2, TJ2, 3), rfl, q354, n_q355, n_q155⟩, fun _ h9 => absurd h9 List.not_mem_nil⟩) rfl ⟨Nat.le_of_ble_eq_true rfl, Nat.le_of_ble_eq_true rfl⟩ ⟨trivial, Nat.le_of_ble_eq_true rfl⟩ dX0_words_28 rfl (fun _ => rfl) (fun v8 M9 z10 => ?_)
      refine s_cast (pc := 33) hF q252 (List.forall_mem_cons.mpr ⟨⟨(RX2, TX2, 13), rfl, Or.inl rfl⟩, List.forall_mem_cons.mpr ⟨⟨(RX3, TX3, 14), rfl, Or.inr n_q1359⟩, fun _ h9 => absurd h9 List.not_mem_nil⟩⟩) dX0_words_33 ?_
      refine s_astore_n (L9 := [some (va_rf a0), some (.int a1), some (.int a2), some (va_rf v8), none]) (pc := 36) hF dX0_words_36 rfl (Nat.le_of_ble_eq_true rfl) rfl ?_
      refine s_aload_n (pc := 37) hF dX0_words_37 rfl rfl ?_
      refine s_callV (pc := 38) (As := []) (st := []) (stf := fun r9 => .int r9 :: []) hF (mX2_isText v8) cw_X2_isText q524 q525 (List.forall_mem_cons.mpr ⟨⟨(RX2, TX2, 13), rfl, q526⟩, List.forall_mem_cons.mpr ⟨⟨(RX3, TX3, 14), rfl, q528⟩, fun _ h9 => absurd h9 List.not_mem_nil⟩⟩) rfl ⟨Nat.le_of_ble_eq_true rfl, Nat.le_of_ble_eq_true rfl⟩ ⟨trivial, Nat.le_of_ble_eq_true rfl⟩ dX0_words_38 rfl (fun _ => rfl) (fun v11 M12 z13 => ?_)
      refine s_if_ne (pc := 41) hF 47 dX0_words_41 rfl ?_ ?_
      · refine s_aload_n (pc := 47) hF dX0_words_47 rfl rfl ?_
        refine s_geti (pc := 48) hF (fl_X0_104 hF) dX0_words_48 (fun v14 => ?_)
        refine s_istore (L9 := [some (va_rf a0), some (.int a1), some (.int a2), some (va_rf v8), some (.int v14)]) (pc := 51) hF dX0_words_51 (Nat.le_of_ble_eq_true rfl) rfl ?_
        refine s_aload_n (pc := 53) hF dX0_words_53 rfl rfl ?_
        refine s_iload_n (pc := 54) hF dX0_words_54 rfl rfl ?_
        refine s_put (pc := 55) hF (pl_X0_104 hF _) dX0_words_55 (fun M15 => ?_)
        refine s_iload (pc := 58) hF dX0_words_58 rfl ?_
        exact s_iret (pc := 60) hF dX0_words_60
      · refine s_bipush (pc := 44) hF dX0_words_44 (-3 : Int32) (by decide) ?_
        exact s_iret (pc := 46) hF dX0_words_46
    · refine s_bipush (pc := 20) hF dX0_words_20 (-2 : Int32) (by decide) ?_
      exact s_iret (pc := 22) hF dX0_words_22
  · refine s_iconst (pc := 8) hF dX0_words_8 (-1 : Int32) (by decide) ?_
    exact s_iret (pc := 9) hF dX0_words_9
theorem mX0_words (a0 : Option Nat) (a1 : Int32) (a2 : Int32) : MT yX0_words cX0_words 5 (Option.some Jvm.ClassFile.FieldType.int) 3 64 eI [va_rf a0, .int a1, .int a2] (fX0_words a0 a1 a2) :=
  MT.of (L0 := [some (va_rf a0), some (.int a1), some (.int a2), none, none]) (by decide) ⟨ct _, ⟨rfl, ⟨rfl, trivial⟩⟩⟩ (Nat.le_of_ble_eq_true rfl) rfl (fun _ _ hF M z => gX0_words hF a0 a1 a2 M z)

theorem pl_X4_9 {G : Cx} {nL fr lc : Nat} {cc : ByteArray} {ret : Option FieldType} (hF : FX G cc nL RX4 ret "<init>" fr lc) (x9 : Int32) : ∀ c ∈ [4], PF G RX4 "<init>" 9 c 0 (.int x9) := by
  obtain ⟨⟨p, l, e, R, s, m, args, below, meth, c0⟩, A, D, dA, mi⟩ := G
  obtain ⟨hx, hb, hml, hown, hts, hr, hlk, hK, hnm, hfr, hlc⟩ := hF
  exact List.forall_mem_cons.mpr ⟨⟨RX4, TX4, 5, "StoryColumns$Line", tyX4 0, rfl, in_X4, Nat.le_of_ble_eq_true rfl, Or.inl ⟨(hts _ q540), Or.inr ⟨rfl, rfl, rfl⟩⟩, fun _ h => h, tyX4_ok 0 (Nat.le_of_ble_eq_true rfl), rfl, rfl, ap_4 hts hK⟩, fun _ h9 => absurd h9 List.not_mem_nil⟩
theorem pl_X4_15 {G : Cx} {nL fr lc : Nat} {cc : ByteArray} {ret : Option FieldType} (hF : FX G cc nL RX4 ret "<init>" fr lc) (x9 : Int32) : ∀ c ∈ [4], PF G RX4 "<init>" 15 c 1 (.int x9) := by
  obtain ⟨⟨p, l, e, R, s, m, args, below, meth, c0⟩, A, D, dA, mi⟩ := G
  obtain ⟨hx, hb, hml, hown, hts, hr, hlk, hK, hnm, hfr, hlc⟩ := hF
  exact List.forall_mem_cons.mpr ⟨⟨RX4, TX4, 5, "StoryColumns$Line", tyX4 1, rfl, in_X4, Nat.le_of_ble_eq_true rfl, Or.inl ⟨(hts _ q543), Or.inr ⟨rfl, rfl, rfl⟩⟩, fun _ h => h, tyX4_ok 1 (Nat.le_of_ble_eq_true rfl), rfl, rfl, ap_4 hts hK⟩, fun _ h9 => absurd h9 List.not_mem_nil⟩
theorem pl_X4_18 {G : Cx} {nL fr lc : Nat} {cc : ByteArray} {ret : Option FieldType} {nm : String} (hF : FX G cc nL RX4 ret nm fr lc) (x9 : Int32) : ∀ c ∈ [4], PF G RX4 nm 18 c 2 (.int x9) := by
  obtain ⟨⟨p, l, e, R, s, m, args, below, meth, c0⟩, A, D, dA, mi⟩ := G
  obtain ⟨hx, hb, hml, hown, hts, hr, hlk, hK, hnm, hfr, hlc⟩ := hF
  exact List.forall_mem_cons.mpr ⟨⟨RX4, TX4, 5, "StoryColumns$Line", tyX4 2, rfl, in_X4, Nat.le_of_ble_eq_true rfl, Or.inl ⟨(hts _ q546), Or.inl rfl⟩, fun _ h => h, tyX4_ok 2 (Nat.le_of_ble_eq_true rfl), rfl, rfl, ap_4 hts hK⟩, fun _ h9 => absurd h9 List.not_mem_nil⟩
theorem pl_X4_21 {G : Cx} {nL fr lc : Nat} {cc : ByteArray} {ret : Option FieldType} {nm : String} (hF : FX G cc nL RX4 ret nm fr lc) (x9 : Int32) : ∀ c ∈ [4], PF G RX4 nm 21 c 3 (.int x9) := by
  obtain ⟨⟨p, l, e, R, s, m, args, below, meth, c0⟩, A, D, dA, mi⟩ := G
  obtain ⟨hx, hb, hml, hown, hts, hr, hlk, hK, hnm, hfr, hlc⟩ := hF
  exact List.forall_mem_cons.mpr ⟨⟨RX4, TX4, 5, "StoryColumns$Line", tyX4 3, rfl, in_X4, Nat.le_of_ble_eq_true rfl, Or.inl ⟨(hts _ q549), Or.inl rfl⟩, fun _ h => h, tyX4_ok 3 (Nat.le_of_ble_eq_true rfl), rfl, rfl, ap_4 hts hK⟩, fun _ h9 => absurd h9 List.not_mem_nil⟩
theorem pl_X4_24 {G : Cx} {nL fr lc : Nat} {cc : ByteArray} {ret : Option FieldType} {nm : String} (hF : FX G cc nL RX4 ret nm fr lc) (x9 : Int32) : ∀ c ∈ [4], PF G RX4 nm 24 c 4 (.int x9) := by
  obtain ⟨⟨p, l, e, R, s, m, args, below, meth, c0⟩, A, D, dA, mi⟩ := G
  obtain ⟨hx, hb, hml, hown, hts, hr, hlk, hK, hnm, hfr, hlc⟩ := hF
  exact List.forall_mem_cons.mpr ⟨⟨RX4, TX4, 5, "StoryColumns$Line", tyX4 4, rfl, in_X4, Nat.le_of_ble_eq_true rfl, Or.inl ⟨(hts _ q552), Or.inl rfl⟩, fun _ h => h, tyX4_ok 4 (Nat.le_of_ble_eq_true rfl), rfl, rfl, ap_4 hts hK⟩, fun _ h9 => absurd h9 List.not_mem_nil⟩
def fX4_init (a0 : Option Nat) (a1 : Int32) (a2 : Int32) (a3 : Int32) (a4 : Int32) (a5 : Int32) (M : Mp) (z : Nat) : Rs Unit := if a0 = none then none else
  ((pu M a0 [4] 0 (.int a1)).bind fun M1 =>
(pu M1 a0 [4] 1 (.int a2)).bind fun M2 =>
(pu M2 a0 [4] 2 (.int a3)).bind fun M3 =>
(pu M3 a0 [4] 3 (.int a4)).bind fun M4 =>
(pu M4 a0 [4] 4 (.int a5)).bind fun M5 =>
some ((), M5, 0, 0))
theorem gX4_init {G : Cx} {F : Option Value × Mp × Nat} (hF : FX G cX4_init 6 RX4 (Option.none : Option Jvm.ClassFile.FieldType) "<init>" 1 20) (a0 : Option Nat) (a1 : Int32) (a2 : Int32) (a3 : Int32) (a4 : Int32) (a5 : Int32) (M : Mp) (z : Nat) : SK G F 6 eV 0 [some (va_rf a0), some (.int a1), some (.int a2), some (.int a3), some (.int a4), some (.int a5)] [] M z (fX4_init a0 a1 a2 a3 a4 a5 M z) := by
  unfold fX4_init
  refine s_aload_n (pc := 0) hF dX4_init_0 rfl rfl ?_
  refine s_oinit (pc := 1) hF q539 ⟨Nat.le_of_ble_eq_true rfl, Nat.le_of_ble_eq_true rfl⟩ ⟨trivial, Nat.le_of_ble_eq_true rfl⟩ dX4_init_1 ?_
  refine s_aload_n (pc := 4) hF dX4_init_4 rfl rfl ?_
  refine s_iload_n (pc := 5) hF dX4_init_5 rfl rfl ?_
  refine s_put (pc := 6) hF (pl_X4_9 hF _) dX4_init_6 (fun M1 => ?_)
  refine s_aload_n (pc := 9) hF dX4_init_9 rfl rfl ?_
  refine s_iload_n (pc := 10) hF dX4_init_10 rfl rfl ?_
  refine s_put (pc := 11) hF (pl_X4_15 hF _) dX4_init_11 (fun M2 => ?_)
  refine s_aload_n (pc := 14) hF dX4_init_14 rfl rfl ?_
  refine s_iload_n (pc := 15) hF dX4_init_15 rfl rfl ?_
  refine s_put (pc := 16) hF (pl_X4_18 hF _) dX4_init_16 (fun M3 => ?_)
  refine s_aload_n (pc := 19) hF dX4_init_19 rfl rfl ?_
  refine s_iload (pc := 20) hF dX4_init_20 rfl ?_
  refine s_put (pc := 22) hF (pl_X4_21 hF _) dX4_init_22 (fun M4 => ?_)
  refine s_aload_n (pc := 25) hF dX4_init_25 rfl rfl ?_
  refine s_iload (pc := 26) hF dX4_init_26 rfl ?_
  refine s_put (pc := 28) hF (pl_X4_24 hF _) dX4_init_28 (fun M5 => ?_)
  exact s_vret (pc := 31) hF dX4_init_31
theorem mX4_init (a0 : Option Nat) (a1 : Int32) (a2 : Int32) (a3 : Int32) (a4 : Int32) (a5 : Int32) : MT yX4_init cX4_init 6 (Option.none : Option Jvm.ClassFile.FieldType) 1 20 eV [va_rf a0, .int a1, .int a2, .int a3, .int a4, .int a5] (fX4_init a0 a1 a2 a3 a4 a5) :=
  MT.of (L0 := [some (va_rf a0), some (.int a1), some (.int a2), some (.int a3), some (.int a4), some (.int a5)]) (by decide) ⟨ct _, ⟨rfl, ⟨rfl, ⟨rfl, ⟨rfl, ⟨rfl, trivial⟩⟩⟩⟩⟩⟩ (Nat.le_of_ble_eq_true rfl) rfl (fun _ _ hF M z => gX4_init hF a0 a1 a2 a3 a4 a5 M z)

theorem fl_X0_18 {G : Cx} {nL fr lc : Nat} {cc : ByteArray} {ret : Option FieldType} {nm : String} (hF : FX G cc nL RX0 ret nm fr lc) : ∀ c ∈ [0], GF G RX0 18 c 1 := by
  obtain ⟨⟨p, l, e, R, s, m, args, below, meth, c0⟩, A, D, dA, mi⟩ := G
  obtain ⟨hx, hb, hml, hown, hts, hr, hlk, hK, hnm, hfr, hlc⟩ := hF
  exact List.forall_mem_cons.mpr ⟨⟨RX0, TX0, 6, "StoryColumns", rfl, in_X0, Nat.le_of_ble_eq_true rfl, Or.inl (hts _ q122), fun _ h => h⟩, fun _ h9 => absurd h9 List.not_mem_nil⟩
theorem cw_X4_init : CWm yX4_init cX4_init 6 (Option.none : Option Jvm.ClassFile.FieldType) 5 := ⟨q538, q73, by decide +kernel, by decide +kernel, by decide +kernel⟩
def fX0_line_J59 (l0 : Option Nat) (l1 : Int32) (l2 : Int32) (l3 : Int32) (l4 : Int32) (l5 : Int32) (s0 : Int32) (s1 : Int32) (s2 : Int32) (M : Mp) (z : Nat) : Rs Int32 := cb (fX0_isSpan s0 s1 s2 M z) z fun v1 M2 z3 =>
if v1 = 0 then
  (some ((-2 : Int32), M2, 0, 0))
else
  ((gr M2 l0 [0] 1).bind fun v4 =>
if ckc M2 v4 [11] = true then
  (cb (fJ2_size v4 M2 z3) z3 fun v5 M6 z7 =>
if v5 = (12 : Int32) then
  (some ((-4 : Int32), M6, 0, 0))
else
  ((gr M6 l0 [0] 1).bind fun v8 =>
nwo 4 5 [.int 0, .int 0, .int 0, .int 0, .int 0] M6 z7 fun M9 z10 =>
if (some z7) = none then none else
  (cb (fX4_init (some z7) l1 l2 l3 l4 l5 M9 z10) z10 fun _ M12 z13 =>
if ckc M12 v8 [11] = true then
  (cb (fJ2_add v8 (some z7) M12 z13) z13 fun v14 M15 z16 =>
(gr M15 l0 [0] 1).bind fun v17 =>
if ckc M15 v17 [11] = true then
  (cb (fJ2_size v17 M15 z16) z16 fun v18 M19 z20 =>
if ckc M19 l0 [0] = true then
  (cb (fX0_changed l0 (v18 - (1 : Int32)) M19 z20) z20 fun v21 M22 z23 =>
some (v21, M22, 0, 0))
else none)
else none)
else none)))
else none)

theorem gX0_line_J59 {G : Cx} {F : Option Value × Mp × Nat} (hF : FX G cX0_line 7 RX0 (Option.some Jvm.ClassFile.FieldType.int) "line" 11 308) (l0 : Option Nat) (l1 : Int32) (l2 : Int32) (l3 : Int32) (l4 : Int32) (l5 : Int32) (s0 : Int32) (s1 : Int32) (s2 : Int32) (M : Mp) (z : Nat) : SK G F 7 eI 59 [some (va_rf l0), some (.int l1), some (.int l2), some (.int l3), some (.int l4), some (.int l5), none] [.int s2, .int s1, .int s0] M z (fX0_line_J59 l0 l1 l2 l3 l4 l5 s0 s1 s2 M z) := by
  unfold fX0_line_J59
  refine s_callS (pc := 59) (As := [.int s0, .int s1, .int s2]) (st := []) (stf := fun r9 => .int r9 :: []) hF (mX0_isSpan s0 s1 s2) cw_X0_isSpan q148 q149 rfl ⟨Nat.le_of_ble_eq_true rfl, Nat.le_of_ble_eq_true rfl⟩ ⟨trivial, Nat.le_of_ble_eq_true rfl⟩ dX0_line_59 rfl (fun _ => rfl) (fun v1 M2 z3 => ?_)
  refine s_if_ne (pc := 62) hF 68 dX0_line_62 rfl ?_ ?_
  · refine s_aload_n (pc := 68) hF dX0_line_68 rfl rfl ?_
    refine s_getr (pc := 69) hF (fl_X0_18 hF) dX0_line_69 (fun v4 => ?_)
    refine s_callF (pc := 72) (As := []) (st := []) (stf := fun r9 => .int r9 :: []) (x := ⟨"java/util/List", "size", "()I"⟩) hF (mJ2_size v4) cw_J2_size rfl ⟨by decide, by decide⟩ q152 q158 n_q154 n_q153 n_q159 (List.forall_mem_cons.mpr ⟨⟨(RJ2, TJ2, 3), rfl, q156, n_q157, n_q155⟩, fun _ h9 => absurd h9 List.not_mem_nil⟩) rfl ⟨Nat.le_of_ble_eq_true rfl, Nat.le_of_ble_eq_true rfl⟩ ⟨trivial, Nat.le_of_ble_eq_true rfl⟩ dX0_line_72 rfl (fun _ => rfl) (fun v5 M6 z7 => ?_)
    refine s_bipush (pc := 77) hF dX0_line_77 (12 : Int32) (by decide) ?_
    refine s_icmp_ne (pc := 79) hF 85 dX0_line_79 rfl ?_ ?_
    · refine s_aload_n (pc := 85) hF dX0_line_85 rfl rfl ?_
      refine s_getr (pc := 86) hF (fl_X0_18 hF) dX0_line_86 (fun v8 => ?_)
      refine s_nwo (pc := 89) hF dX0_line_89 rfl in_X4 tyX4 tyX4_ok q534 q535 q73 (fun j hj => by rcases (show j = 0 ∨ j = 1 ∨ j = 2 ∨ j = 3 ∨ j = 4 by omega) with rfl | rfl | rfl | rfl | rfl <;> rfl) (fun M9 z10 => ?_)
      refine s_dup (pc := 92) hF dX0_line_92 (ct _) ?_
      refine s_iload_n (pc := 93) hF dX0_line_93 rfl rfl ?_
      refine s_iload_n (pc := 94) hF dX0_line_94 rfl rfl ?_
      refine s_iload_n (pc := 95) hF dX0_line_95 rfl rfl ?_
      refine s_iload (pc := 96) hF dX0_line_96 rfl ?_
      refine s_iload (pc := 98) hF dX0_line_98 rfl ?_
      refine s_callJ (pc := 100) (As := [.int l1, .int l2, .int l3, .int l4, .int l5]) (st := [va_rf (some z7), va_rf v8]) (stf := fun r9 => [va_rf (some z7), va_rf v8]) hF (mX4_init (some z7) l1 l2 l3 l4 l5) cw_X4_init q536 q537 rfl rfl ⟨Nat.le_of_ble_eq_true rfl, Nat.le_of_ble_eq_true rfl⟩ ⟨⟨ct _, ⟨ct _, trivial⟩⟩, Nat.le_of_ble_eq_true rfl⟩ dX0_line_100 rfl (fun _ => rfl) (fun v11 M12 z13 => ?_)
      refine s_callF (pc := 103) (As := [va_rf (some z7)]) (st := []) (stf := fun r9 => .int r9 :: []) (x := ⟨"java/util/List", "add", "(Ljava/lang/Object;)Z"⟩) hF (mJ2_add v8 (some z7)) cw_J2_add rfl ⟨by decide, by decide⟩ q446 q451 n_q448 n_q447 n_q452 (List.forall_mem_cons.mpr ⟨⟨(RJ2, TJ2, 3), rfl, q449, n_q450, n_q155⟩, fun _ h9 => absurd h9 List.not_mem_nil⟩) rfl ⟨Nat.le_of_ble_eq_true rfl, Nat.le_of_ble_eq_true rfl⟩ ⟨trivial, Nat.le_of_ble_eq_true rfl⟩ dX0_line_103 rfl (fun _ => rfl) (fun v14 M15 z16 => ?_)
      refine s_pop (pc := 108) hF dX0_line_108 rfl ?_
      refine s_aload_n (pc := 109) hF dX0_line_109 rfl rfl ?_
      refine s_aload_n (pc := 110) hF dX0_line_110 rfl rfl ?_
      refine s_getr (pc := 111) hF (fl_X0_18 hF) dX0_line_111 (fun v17 => ?_)
      refine s_callF (pc := 114) (As := []) (st := [va_rf l0]) (stf := fun r9 => .int r9 :: [va_rf l0]) (x := ⟨"java/util/List", "size", "()I"⟩) hF (mJ2_size v17) cw_J2_size rfl ⟨by decide, by decide⟩ q152 q158 n_q154 n_q153 n_q159 (List.forall_mem_cons.mpr ⟨⟨(RJ2, TJ2, 3), rfl, q156, n_q157, n_q155⟩, fun _ h9 => absurd h9 List.not_mem_nil⟩) rfl ⟨Nat.le_of_ble_eq_true rfl, Nat.le_of_ble_eq_true rfl⟩ ⟨⟨ct _, trivial⟩, Nat.le_of_ble_eq_true rfl⟩ dX0_line_114 rfl (fun _ => rfl) (fun v18 M19 z20 => ?_)
      refine s_iconst (pc := 119) hF dX0_line_119 (1 : Int32) (by decide) ?_
      refine s_isub (pc := 120) hF dX0_line_120 ?_
      refine s_callV (pc := 121) (As := [.int (v18 - (1 : Int32))]) (st := []) (stf := fun r9 => .int r9 :: []) hF (mX0_changed l0 (v18 - (1 : Int32))) cw_X0_changed q510 q512 (List.forall_mem_cons.mpr ⟨⟨(RX0, TX0, 6), rfl, qs4⟩, fun _ h9 => absurd h9 List.not_mem_nil⟩) rfl ⟨Nat.le_of_ble_eq_true rfl, Nat.le_of_ble_eq_true rfl⟩ ⟨trivial, Nat.le_of_ble_eq_true rfl⟩ dX0_line_121 rfl (fun _ => rfl) (fun v21 M22 z23 => ?_)
      exact s_iret (pc := 124) hF dX0_line_124
    · refine s_bipush (pc := 82) hF dX0_line_82 (-4 : Int32) (by decide) ?_
      exact s_iret (pc := 84) hF dX0_line_84
  · refine s_bipush (pc := 65) hF dX0_line_65 (-2 : Int32) (by decide) ?_
    exact s_iret (pc := 67) hF dX0_line_67

def fX0_line_J32 (l0 : Option Nat) (l1 : Int32) (l2 : Int32) (l3 : Int32) (l4 : Int32) (l5 : Int32) (s0 : Int32) (M : Mp) (z : Nat) : Rs Int32 := cb (fX0_in l3 (1 : Int32) s0 M z) z fun v1 M2 z3 =>
if v1 = 0 then
  (some ((-2 : Int32), M2, 0, 0))
else
  (if l2 = 0 then
  (fX0_line_J59 l0 l1 l2 l3 l4 l5 l4 l5 (29 : Int32) M2 z3)
else
  (fX0_line_J59 l0 l1 l2 l3 l4 l5 l4 l5 (7 : Int32) M2 z3))

theorem gX0_line_J32 {G : Cx} {F : Option Value × Mp × Nat} (hF : FX G cX0_line 7 RX0 (Option.some Jvm.ClassFile.FieldType.int) "line" 11 308) (l0 : Option Nat) (l1 : Int32) (l2 : Int32) (l3 : Int32) (l4 : Int32) (l5 : Int32) (s0 : Int32) (M : Mp) (z : Nat) : SK G F 7 eI 32 [some (va_rf l0), some (.int l1), some (.int l2), some (.int l3), some (.int l4), some (.int l5), none] [.int s0] M z (fX0_line_J32 l0 l1 l2 l3 l4 l5 s0 M z) := by
  unfold fX0_line_J32
  refine s_istore (L9 := [some (va_rf l0), some (.int l1), some (.int l2), some (.int l3), some (.int l4), some (.int l5), some (.int s0)]) (pc := 32) hF dX0_line_32 (Nat.le_of_ble_eq_true rfl) rfl ?_
  refine s_iload_n (pc := 34) hF dX0_line_34 rfl rfl ?_
  refine s_iconst (pc := 35) hF dX0_line_35 (1 : Int32) (by decide) ?_
  refine s_iload (pc := 36) hF dX0_line_36 rfl ?_
  refine s_callS (pc := 38) (As := [.int l3, .int (1 : Int32), .int s0]) (st := []) (stf := fun r9 => .int r9 :: []) hF (mX0_in l3 (1 : Int32) s0) cw_X0_in q145 q146 rfl ⟨Nat.le_of_ble_eq_true rfl, Nat.le_of_ble_eq_true rfl⟩ ⟨trivial, Nat.le_of_ble_eq_true rfl⟩ dX0_line_38 rfl (fun _ => rfl) (fun v1 M2 z3 => ?_)
  refine s_if_eq (pc := 41) hF 65 dX0_line_41 rfl ?_ ?_
  · refine s_bipush (pc := 65) hF dX0_line_65 (-2 : Int32) (by decide) ?_
    exact s_iret (pc := 67) hF dX0_line_67
  · refine s_iload (pc := 44) hF dX0_line_44 rfl ?_
    refine s_iload (pc := 46) hF dX0_line_46 rfl ?_
    refine s_iload_n (pc := 48) hF dX0_line_48 rfl rfl ?_
    refine s_if_ne (pc := 49) hF 57 dX0_line_49 rfl ?_ ?_
    · refine s_bipush (pc := 57) hF dX0_line_57 (7 : Int32) (by decide) ?_
      exact SK.sb (gX0_line_J59 hF l0 l1 l2 l3 l4 l5 l4 l5 (7 : Int32) M2 z3) ⟨rfl, ⟨rfl, ⟨rfl, ⟨rfl, ⟨rfl, ⟨rfl, trivial⟩⟩⟩⟩⟩⟩
    · refine s_bipush (pc := 52) hF dX0_line_52 (29 : Int32) (by decide) ?_
      refine s_goto (pc := 54) hF 59 dX0_line_54 rfl ?_
      exact SK.sb (gX0_line_J59 hF l0 l1 l2 l3 l4 l5 l4 l5 (29 : Int32) M2 z3) ⟨rfl, ⟨rfl, ⟨rfl, ⟨rfl, ⟨rfl, ⟨rfl, trivial⟩⟩⟩⟩⟩⟩
def fX0_line (a0 : Option Nat) (a1 : Int32) (a2 : Int32) (a3 : Int32) (a4 : Int32) (a5 : Int32) (M : Mp) (z : Nat) : Rs Int32 := cb (fX0_in a1 (0 : Int32) (3 : Int32) M z) z fun v1 M2 z3 =>
if v1 = 0 then
  (some ((-2 : Int32), M2, 0, 0))
else
  (cb (fX0_in a2 (0 : Int32) (1 : Int32) M2 z3) z3 fun v4 M5 z6 =>
if v4 = 0 then
  (some ((-2 : Int32), M5, 0, 0))
else
  (if a2 = 0 then
  (fX0_line_J32 a0 a1 a2 a3 a4 a5 (7 : Int32) M5 z6)
else
  (fX0_line_J32 a0 a1 a2 a3 a4 a5 (29 : Int32) M5 z6)))
theorem gX0_line {G : Cx} {F : Option Value × Mp × Nat} (hF : FX G cX0_line 7 RX0 (Option.some Jvm.ClassFile.FieldType.int) "line" 11 308) (a0 : Option Nat) (a1 : Int32) (a2 : Int32) (a3 : Int32) (a4 : Int32) (a5 : Int32) (M : Mp) (z : Nat) : SK G F 7 eI 0 [some (va_rf a0), some (.int a1), some (.int a2), some (.int a3), some (.int a4), some (.int a5), none] [] M z (fX0_line a0 a1 a2 a3 a4 a5 M z) := by
  unfold fX0_line
  refine s_iload_n (pc := 0) hF dX0_line_0 rfl rfl ?_
  refine s_iconst (pc := 1) hF dX0_line_1 (0 : Int32) (by decide) ?_
  refine s_iconst (pc := 2) hF dX0_line_2 (3 : Int32) (by decide) ?_
  refine s_callS (pc := 3) (As := [.int a1, .int (0 : Int32), .int (3 : Int32)]) (st := []) (stf := fun r9 => .int r9 :: []) hF (mX0_in a1 (0 : Int32) (3 : Int32)) cw_X0_in q145 q146 rfl ⟨Nat.le_of_ble_eq_true rfl, Nat.le_of_ble_eq_true rfl⟩ ⟨trivial, Nat.le_of_ble_eq_true rfl⟩ dX0_line_3 rfl (fun _ => rfl) (fun v1 M2 z3 => ?_)
  refine s_if_eq (pc := 6) hF 18 dX0_line_6 rfl ?_ ?_
  · refine s_bipush (pc := 18) hF dX0_line_18 (-2 : Int32) (by decide) ?_
    exact s_iret (pc := 20) hF dX0_line_20
  · refine s_iload_n (pc := 9) hF dX0_line_9 rfl rfl ?_
    refine s_iconst (pc := 10) hF dX0_line_10 (0 : Int32) (by decide) ?_
    refine s_iconst (pc := 11) hF dX0_line_11 (1 : Int32) (by decide) ?_
    refine s_callS (pc := 12) (As := [.int a2, .int (0 : Int32), .int (1 : Int32)]) (st := []) (stf := fun r9 => .int r9 :: []) hF (mX0_in a2 (0 : Int32) (1 : Int32)) cw_X0_in q145 q146 rfl ⟨Nat.le_of_ble_eq_true rfl, Nat.le_of_ble_eq_true rfl⟩ ⟨trivial, Nat.le_of_ble_eq_true rfl⟩ dX0_line_12 rfl (fun _ => rfl) (fun v4 M5 z6 => ?_)
    refine s_if_ne (pc := 15) hF 21 dX0_line_15 rfl ?_ ?_
    · refine s_iload_n (pc := 21) hF dX0_line_21 rfl rfl ?_
      refine s_if_ne (pc := 22) hF 30 dX0_line_22 rfl ?_ ?_
      · refine s_bipush (pc := 30) hF dX0_line_30 (29 : Int32) (by decide) ?_
        exact SK.sb (gX0_line_J32 hF a0 a1 a2 a3 a4 a5 (29 : Int32) M5 z6) ⟨rfl, ⟨rfl, ⟨rfl, ⟨rfl, ⟨rfl, ⟨rfl, trivial⟩⟩⟩⟩⟩⟩
      · refine s_bipush (pc := 25) hF dX0_line_25 (7 : Int32) (by decide) ?_
        refine s_goto (pc := 27) hF 32 dX0_line_27 rfl ?_
        exact SK.sb (gX0_line_J32 hF a0 a1 a2 a3 a4 a5 (7 : Int32) M5 z6) ⟨rfl, ⟨rfl, ⟨rfl, ⟨rfl, ⟨rfl, ⟨rfl, trivial⟩⟩⟩⟩⟩⟩
    · refine s_bipush (pc := 18) hF dX0_line_18 (-2 : Int32) (by decide) ?_
      exact s_iret (pc := 20) hF dX0_line_20
theorem mX0_line (a0 : Option Nat) (a1 : Int32) (a2 : Int32) (a3 : Int32) (a4 : Int32) (a5 : Int32) : MT yX0_line cX0_line 7 (Option.some Jvm.ClassFile.FieldType.int) 11 308 eI [va_rf a0, .int a1, .int a2, .int a3, .int a4, .int a5] (fX0_line a0 a1 a2 a3 a4 a5) :=
  MT.of (L0 := [some (va_rf a0), some (.int a1), some (.int a2), some (.int a3), some (.int a4), some (.int a5), none]) (by decide) ⟨ct _, ⟨rfl, ⟨rfl, ⟨rfl, ⟨rfl, ⟨rfl, trivial⟩⟩⟩⟩⟩⟩ (Nat.le_of_ble_eq_true rfl) rfl (fun _ _ hF M z => gX0_line hF a0 a1 a2 a3 a4 a5 M z)

theorem cw_J2_remove : CWm yJ2_remove cJ2_remove 4 (Option.some (Jvm.ClassFile.FieldType.object "java/lang/Object")) 1 := ⟨q587, q62, by decide +kernel, by decide +kernel, by decide +kernel⟩
theorem cw_J2_isEmpty : CWm yJ2_isEmpty cJ2_isEmpty 1 (Option.some Jvm.ClassFile.FieldType.boolean) 0 := ⟨q578, q62, by decide +kernel, by decide +kernel, by decide +kernel⟩
def fX0_back (a0 : Option Nat) (M : Mp) (z : Nat) : Rs Int32 := (gr M a0 [0] 0).bind fun v1 =>
if ckc M v1 [11] = true then
  (cb (fJ2_isEmpty v1 M z) z fun v2 M3 z4 =>
if v2 = 0 then
  ((gr M3 a0 [0] 0).bind fun v5 =>
(gr M3 a0 [0] 0).bind fun v6 =>
if ckc M3 v6 [11] = true then
  (cb (fJ2_size v6 M3 z4) z4 fun v7 M8 z9 =>
if ckc M8 v5 [11] = true then
  (cb (fJ2_remove v5 (v7 - (1 : Int32)) M8 z9) z9 fun v10 M11 z12 =>
(gr M11 a0 [0] 0).bind fun v13 =>
if ckc M11 v13 [11] = true then
  (cb (fJ2_size v13 M11 z12) z12 fun v14 M15 z16 =>
if ckc M15 a0 [0] = true then
  (cb (fX0_changed a0 v14 M15 z16) z16 fun v17 M18 z19 =>
some (v17, M18, 0, 0))
else none)
else none)
else none)
else none)
else
  (some ((-3 : Int32), M3, 0, 0)))
else none
theorem gX0_back {G : Cx} {F : Option Value × Mp × Nat} (hF : FX G cX0_back 1 RX0 (Option.some Jvm.ClassFile.FieldType.int) "back" 3 106) (a0 : Option Nat) (M : Mp) (z : Nat) : SK G F 1 eI 0 [some (va_rf a0)] [] M z (fX0_back a0 M z) := by
  unfold fX0_back
  refine s_aload_n (pc := 0) hF dX0_back_0 rfl rfl ?_
  refine s_getr (pc := 1) hF (fl_X0_14 hF) dX0_back_1 (fun v1 => ?_)
  refine s_callF (pc := 4) (As := []) (st := []) (stf := fun r9 => .int r9 :: []) (x := ⟨"java/util/List", "isEmpty", "()Z"⟩) hF (mJ2_isEmpty v1) cw_J2_isEmpty rfl ⟨by decide, by decide⟩ q571 q576 n_q573 n_q572 n_q577 (List.forall_mem_cons.mpr ⟨⟨(RJ2, TJ2, 3), rfl, q574, n_q575, n_q155⟩, fun _ h9 => absurd h9 List.not_mem_nil⟩) rfl ⟨Nat.le_of_ble_eq_true rfl, Nat.le_of_ble_eq_true rfl⟩ ⟨trivial, Nat.le_of_ble_eq_true rfl⟩ dX0_back_4 rfl (fun _ => rfl) (fun v2 M3 z4 => ?_)
  refine s_if_eq (pc := 9) hF 15 dX0_back_9 rfl ?_ ?_
  · refine s_aload_n (pc := 15) hF dX0_back_15 rfl rfl ?_
    refine s_getr (pc := 16) hF (fl_X0_14 hF) dX0_back_16 (fun v5 => ?_)
    refine s_aload_n (pc := 19) hF dX0_back_19 rfl rfl ?_
    refine s_getr (pc := 20) hF (fl_X0_14 hF) dX0_back_20 (fun v6 => ?_)
    refine s_callF (pc := 23) (As := []) (st := [va_rf v5]) (stf := fun r9 => .int r9 :: [va_rf v5]) (x := ⟨"java/util/List", "size", "()I"⟩) hF (mJ2_size v6) cw_J2_size rfl ⟨by decide, by decide⟩ q152 q158 n_q154 n_q153 n_q159 (List.forall_mem_cons.mpr ⟨⟨(RJ2, TJ2, 3), rfl, q156, n_q157, n_q155⟩, fun _ h9 => absurd h9 List.not_mem_nil⟩) rfl ⟨Nat.le_of_ble_eq_true rfl, Nat.le_of_ble_eq_true rfl⟩ ⟨⟨ct _, trivial⟩, Nat.le_of_ble_eq_true rfl⟩ dX0_back_23 rfl (fun _ => rfl) (fun v7 M8 z9 => ?_)
    refine s_iconst (pc := 28) hF dX0_back_28 (1 : Int32) (by decide) ?_
    refine s_isub (pc := 29) hF dX0_back_29 ?_
    refine s_callF (pc := 30) (As := [.int (v7 - (1 : Int32))]) (st := []) (stf := fun r9 => va_rf r9 :: []) (x := ⟨"java/util/List", "remove", "(I)Ljava/lang/Object;"⟩) hF (mJ2_remove v5 (v7 - (1 : Int32))) cw_J2_remove rfl ⟨by decide, by decide⟩ q580 q585 n_q582 n_q581 n_q586 (List.forall_mem_cons.mpr ⟨⟨(RJ2, TJ2, 3), rfl, q583, n_q584, n_q155⟩, fun _ h9 => absurd h9 List.not_mem_nil⟩) rfl ⟨Nat.le_of_ble_eq_true rfl, Nat.le_of_ble_eq_true rfl⟩ ⟨trivial, Nat.le_of_ble_eq_true rfl⟩ dX0_back_30 rfl (fun _ => rfl) (fun v10 M11 z12 => ?_)
    refine s_pop (pc := 35) hF dX0_back_35 (ct _) ?_
    refine s_aload_n (pc := 36) hF dX0_back_36 rfl rfl ?_
    refine s_aload_n (pc := 37) hF dX0_back_37 rfl rfl ?_
    refine s_getr (pc := 38) hF (fl_X0_14 hF) dX0_back_38 (fun v13 => ?_)
    refine s_callF (pc := 41) (As := []) (st := [va_rf a0]) (stf := fun r9 => .int r9 :: [va_rf a0]) (x := ⟨"java/util/List", "size", "()I"⟩) hF (mJ2_size v13) cw_J2_size rfl ⟨by decide, by decide⟩ q152 q158 n_q154 n_q153 n_q159 (List.forall_mem_cons.mpr ⟨⟨(RJ2, TJ2, 3), rfl, q156, n_q157, n_q155⟩, fun _ h9 => absurd h9 List.not_mem_nil⟩) rfl ⟨Nat.le_of_ble_eq_true rfl, Nat.le_of_ble_eq_true rfl⟩ ⟨⟨ct _, trivial⟩, Nat.le_of_ble_eq_true rfl⟩ dX0_back_41 rfl (fun _ => rfl) (fun v14 M15 z16 => ?_)
    refine s_callV (pc := 46) (As := [.int v14]) (st := []) (stf := fun r9 => .int r9 :: []) hF (mX0_changed a0 v14) cw_X0_changed q510 q512 (List.forall_mem_cons.mpr ⟨⟨(RX0, TX0, 6), rfl, qs4⟩, fun _ h9 => absurd h9 List.not_mem_nil⟩) rfl ⟨Nat.le_of_ble_eq_true rfl, Nat.le_of_ble_eq_true rfl⟩ ⟨trivial, Nat.le_of_ble_eq_true rfl⟩ dX0_back_46 rfl (fun _ => rfl) (fun v17 M18 z19 => ?_)
    exact s_iret (pc := 49) hF dX0_back_49
  · refine s_bipush (pc := 12) hF dX0_back_12 (-3 : Int32) (by decide) ?_
    exact s_iret (pc := 14) hF dX0_back_14
theorem mX0_back (a0 : Option Nat) : MT yX0_back cX0_back 1 (Option.some Jvm.ClassFile.FieldType.int) 3 106 eI [va_rf a0] (fX0_back a0) :=
  MT.of (L0 := [some (va_rf a0)]) (by decide) ⟨ct _, trivial⟩ (Nat.le_of_ble_eq_true rfl) rfl (fun _ _ hF M z => gX0_back hF a0 M z)

def fX0_erase (a0 : Option Nat) (M : Mp) (z : Nat) : Rs Int32 := (gr M a0 [0] 1).bind fun v1 =>
if ckc M v1 [11] = true then
  (cb (fJ2_isEmpty v1 M z) z fun v2 M3 z4 =>
if v2 = 0 then
  ((gr M3 a0 [0] 1).bind fun v5 =>
(gr M3 a0 [0] 1).bind fun v6 =>
if ckc M3 v6 [11] = true then
  (cb (fJ2_size v6 M3 z4) z4 fun v7 M8 z9 =>
if ckc M8 v5 [11] = true then
  (cb (fJ2_remove v5 (v7 - (1 : Int32)) M8 z9) z9 fun v10 M11 z12 =>
(gr M11 a0 [0] 1).bind fun v13 =>
if ckc M11 v13 [11] = true then
  (cb (fJ2_size v13 M11 z12) z12 fun v14 M15 z16 =>
if ckc M15 a0 [0] = true then
  (cb (fX0_changed a0 v14 M15 z16) z16 fun v17 M18 z19 =>
some (v17, M18, 0, 0))
else none)
else none)
else none)
else none)
else
  (some ((-3 : Int32), M3, 0, 0)))
else none
theorem gX0_erase {G : Cx} {F : Option Value × Mp × Nat} (hF : FX G cX0_erase 1 RX0 (Option.some Jvm.ClassFile.FieldType.int) "erase" 3 106) (a0 : Option Nat) (M : Mp) (z : Nat) : SK G F 1 eI 0 [some (va_rf a0)] [] M z (fX0_erase a0 M z) := by
  unfold fX0_erase
  refine s_aload_n (pc := 0) hF dX0_erase_0 rfl rfl ?_
  refine s_getr (pc := 1) hF (fl_X0_18 hF) dX0_erase_1 (fun v1 => ?_)
  refine s_callF (pc := 4) (As := []) (st := []) (stf := fun r9 => .int r9 :: []) (x := ⟨"java/util/List", "isEmpty", "()Z"⟩) hF (mJ2_isEmpty v1) cw_J2_isEmpty rfl ⟨by decide, by decide⟩ q571 q576 n_q573 n_q572 n_q577 (List.forall_mem_cons.mpr ⟨⟨(RJ2, TJ2, 3), rfl, q574, n_q575, n_q155⟩, fun _ h9 => absurd h9 List.not_mem_nil⟩) rfl ⟨Nat.le_of_ble_eq_true rfl, Nat.le_of_ble_eq_true rfl⟩ ⟨trivial, Nat.le_of_ble_eq_true rfl⟩ dX0_erase_4 rfl (fun _ => rfl) (fun v2 M3 z4 => ?_)
  refine s_if_eq (pc := 9) hF 15 dX0_erase_9 rfl ?_ ?_
  · refine s_aload_n (pc := 15) hF dX0_erase_15 rfl rfl ?_
    refine s_getr (pc := 16) hF (fl_X0_18 hF) dX0_erase_16 (fun v5 => ?_)
    refine s_aload_n (pc := 19) hF dX0_erase_19 rfl rfl ?_
    refine s_getr (pc := 20) hF (fl_X0_18 hF) dX0_erase_20 (fun v6 => ?_)
    refine s_callF (pc := 23) (As := []) (st := [va_rf v5]) (stf := fun r9 => .int r9 :: [va_rf v5]) (x := ⟨"java/util/List", "size", "()I"⟩) hF (mJ2_size v6) cw_J2_size rfl ⟨by decide, by decide⟩ q152 q158 n_q154 n_q153 n_q159 (List.forall_mem_cons.mpr ⟨⟨(RJ2, TJ2, 3), rfl, q156, n_q157, n_q155⟩, fun _ h9 => absurd h9 List.not_mem_nil⟩) rfl ⟨Nat.le_of_ble_eq_true rfl, Nat.le_of_ble_eq_true rfl⟩ ⟨⟨ct _, trivial⟩, Nat.le_of_ble_eq_true rfl⟩ dX0_erase_23 rfl (fun _ => rfl) (fun v7 M8 z9 => ?_)
    refine s_iconst (pc := 28) hF dX0_erase_28 (1 : Int32) (by decide) ?_
    refine s_isub (pc := 29) hF dX0_erase_29 ?_
    refine s_callF (pc := 30) (As := [.int (v7 - (1 : Int32))]) (st := []) (stf := fun r9 => va_rf r9 :: []) (x := ⟨"java/util/List", "remove", "(I)Ljava/lang/Object;"⟩) hF (mJ2_remove v5 (v7 - (1 : Int32))) cw_J2_remove rfl ⟨by decide, by decide⟩ q580 q585 n_q582 n_q581 n_q586 (List.forall_mem_cons.mpr ⟨⟨(RJ2, TJ2, 3), rfl, q583, n_q584, n_q155⟩, fun _ h9 => absurd h9 List.not_mem_nil⟩) rfl ⟨Nat.le_of_ble_eq_true rfl, Nat.le_of_ble_eq_true rfl⟩ ⟨trivial, Nat.le_of_ble_eq_true rfl⟩ dX0_erase_30 rfl (fun _ => rfl) (fun v10 M11 z12 => ?_)
    refine s_pop (pc := 35) hF dX0_erase_35 (ct _) ?_
    refine s_aload_n (pc := 36) hF dX0_erase_36 rfl rfl ?_
    refine s_aload_n (pc := 37) hF dX0_erase_37 rfl rfl ?_
    refine s_getr (pc := 38) hF (fl_X0_18 hF) dX0_erase_38 (fun v13 => ?_)
    refine s_callF (pc := 41) (As := []) (st := [va_rf a0]) (stf := fun r9 => .int r9 :: [va_rf a0]) (x := ⟨"java/util/List", "size", "()I"⟩) hF (mJ2_size v13) cw_J2_size rfl ⟨by decide, by decide⟩ q152 q158 n_q154 n_q153 n_q159 (List.forall_mem_cons.mpr ⟨⟨(RJ2, TJ2, 3), rfl, q156, n_q157, n_q155⟩, fun _ h9 => absurd h9 List.not_mem_nil⟩) rfl ⟨Nat.le_of_ble_eq_true rfl, Nat.le_of_ble_eq_true rfl⟩ ⟨⟨ct _, trivial⟩, Nat.le_of_ble_eq_true rfl⟩ dX0_erase_41 rfl (fun _ => rfl) (fun v14 M15 z16 => ?_)
    refine s_callV (pc := 46) (As := [.int v14]) (st := []) (stf := fun r9 => .int r9 :: []) hF (mX0_changed a0 v14) cw_X0_changed q510 q512 (List.forall_mem_cons.mpr ⟨⟨(RX0, TX0, 6), rfl, qs4⟩, fun _ h9 => absurd h9 List.not_mem_nil⟩) rfl ⟨Nat.le_of_ble_eq_true rfl, Nat.le_of_ble_eq_true rfl⟩ ⟨trivial, Nat.le_of_ble_eq_true rfl⟩ dX0_erase_46 rfl (fun _ => rfl) (fun v17 M18 z19 => ?_)
    exact s_iret (pc := 49) hF dX0_erase_49
  · refine s_bipush (pc := 12) hF dX0_erase_12 (-3 : Int32) (by decide) ?_
    exact s_iret (pc := 14) hF dX0_erase_14
theorem mX0_erase (a0 : Option Nat) : MT yX0_erase cX0_erase 1 (Option.some Jvm.ClassFile.FieldType.int) 3 106 eI [va_rf a0] (fX0_erase a0) :=
  MT.of (L0 := [some (va_rf a0)]) (by decide) ⟨ct _, trivial⟩ (Nat.le_of_ble_eq_true rfl) rfl (fun _ _ hF M z => gX0_erase hF a0 M z)

theorem cw_J2_clear : CWm yJ2_clear cJ2_clear 4 (Option.none : Option Jvm.ClassFile.FieldType) 0 := ⟨q609, q62, by decide +kernel, by decide +kernel, by decide +kernel⟩
def fX0_clear (a0 : Option Nat) (M : Mp) (z : Nat) : Rs Int32 := (gr M a0 [0] 0).bind fun v1 =>
if ckc M v1 [11] = true then
  (cb (fJ2_size v1 M z) z fun v2 M3 z4 =>
(gr M3 a0 [0] 0).bind fun v5 =>
if ckc M3 v5 [11] = true then
  (cb (fJ2_clear v5 M3 z4) z4 fun _ M7 z8 =>
(gr M7 a0 [0] 1).bind fun v9 =>
if ckc M7 v9 [11] = true then
  (cb (fJ2_clear v9 M7 z8) z8 fun _ M11 z12 =>
if ckc M11 a0 [0] = true then
  (cb (fX0_changed a0 v2 M11 z12) z12 fun v13 M14 z15 =>
some (v13, M14, 0, 0))
else none)
else none)
else none)
else none
theorem gX0_clear {G : Cx} {F : Option Value × Mp × Nat} (hF : FX G cX0_clear 2 RX0 (Option.some Jvm.ClassFile.FieldType.int) "clear" 1 23) (a0 : Option Nat) (M : Mp) (z : Nat) : SK G F 2 eI 0 [some (va_rf a0), none] [] M z (fX0_clear a0 M z) := by
  unfold fX0_clear
  refine s_aload_n (pc := 0) hF dX0_clear_0 rfl rfl ?_
  refine s_getr (pc := 1) hF (fl_X0_14 hF) dX0_clear_1 (fun v1 => ?_)
  refine s_callF (pc := 4) (As := []) (st := []) (stf := fun r9 => .int r9 :: []) (x := ⟨"java/util/List", "size", "()I"⟩) hF (mJ2_size v1) cw_J2_size rfl ⟨by decide, by decide⟩ q152 q158 n_q154 n_q153 n_q159 (List.forall_mem_cons.mpr ⟨⟨(RJ2, TJ2, 3), rfl, q156, n_q157, n_q155⟩, fun _ h9 => absurd h9 List.not_mem_nil⟩) rfl ⟨Nat.le_of_ble_eq_true rfl, Nat.le_of_ble_eq_true rfl⟩ ⟨trivial, Nat.le_of_ble_eq_true rfl⟩ dX0_clear_4 rfl (fun _ => rfl) (fun v2 M3 z4 => ?_)
  refine s_istore_n (L9 := [some (va_rf a0), some (.int v2)]) (pc := 9) hF dX0_clear_9 rfl (Nat.le_of_ble_eq_true rfl) rfl ?_
  refine s_aload_n (pc := 10) hF dX0_clear_10 rfl rfl ?_
  refine s_getr (pc := 11) hF (fl_X0_14 hF) dX0_clear_11 (fun v5 => ?_)
  refine s_callF (pc := 14) (As := []) (st := []) (stf := fun r9 => []) (x := ⟨"java/util/List", "clear", "()V"⟩) hF (mJ2_clear v5) cw_J2_clear rfl ⟨by decide, by decide⟩ q602 q607 n_q604 n_q603 n_q608 (List.forall_mem_cons.mpr ⟨⟨(RJ2, TJ2, 3), rfl, q605, n_q606, n_q155⟩, fun _ h9 => absurd h9 List.not_mem_nil⟩) rfl ⟨Nat.le_of_ble_eq_true rfl, Nat.le_of_ble_eq_true rfl⟩ ⟨trivial, Nat.le_of_ble_eq_true rfl⟩ dX0_clear_14 rfl (fun _ => rfl) (fun v6 M7 z8 => ?_)
  refine s_aload_n (pc := 19) hF dX0_clear_19 rfl rfl ?_
  refine s_getr (pc := 20) hF (fl_X0_18 hF) dX0_clear_20 (fun v9 => ?_)
  refine s_callF (pc := 23) (As := []) (st := []) (stf := fun r9 => []) (x := ⟨"java/util/List", "clear", "()V"⟩) hF (mJ2_clear v9) cw_J2_clear rfl ⟨by decide, by decide⟩ q602 q607 n_q604 n_q603 n_q608 (List.forall_mem_cons.mpr ⟨⟨(RJ2, TJ2, 3), rfl, q605, n_q606, n_q155⟩, fun _ h9 => absurd h9 List.not_mem_nil⟩) rfl ⟨Nat.le_of_ble_eq_true rfl, Nat.le_of_ble_eq_true rfl⟩ ⟨trivial, Nat.le_of_ble_eq_true rfl⟩ dX0_clear_23 rfl (fun _ => rfl) (fun v10 M11 z12 => ?_)
  refine s_aload_n (pc := 28) hF dX0_clear_28 rfl rfl ?_
  refine s_iload_n (pc := 29) hF dX0_clear_29 rfl rfl ?_
  refine s_callV (pc := 30) (As := [.int v2]) (st := []) (stf := fun r9 => .int r9 :: []) hF (mX0_changed a0 v2) cw_X0_changed q510 q512 (List.forall_mem_cons.mpr ⟨⟨(RX0, TX0, 6), rfl, qs4⟩, fun _ h9 => absurd h9 List.not_mem_nil⟩) rfl ⟨Nat.le_of_ble_eq_true rfl, Nat.le_of_ble_eq_true rfl⟩ ⟨trivial, Nat.le_of_ble_eq_true rfl⟩ dX0_clear_30 rfl (fun _ => rfl) (fun v13 M14 z15 => ?_)
  exact s_iret (pc := 33) hF dX0_clear_33
theorem mX0_clear (a0 : Option Nat) : MT yX0_clear cX0_clear 2 (Option.some Jvm.ClassFile.FieldType.int) 1 23 eI [va_rf a0] (fX0_clear a0) :=
  MT.of (L0 := [some (va_rf a0), none]) (by decide) ⟨ct _, trivial⟩ (Nat.le_of_ble_eq_true rfl) rfl (fun _ _ hF M z => gX0_clear hF a0 M z)

theorem fl_X0_43 {G : Cx} {nL fr lc : Nat} {cc : ByteArray} {ret : Option FieldType} {nm : String} (hF : FX G cc nL RX0 ret nm fr lc) : ∀ c ∈ [4], GF G RX0 43 c 3 := by
  obtain ⟨⟨p, l, e, R, s, m, args, below, meth, c0⟩, A, D, dA, mi⟩ := G
  obtain ⟨hx, hb, hml, hown, hts, hr, hlk, hK, hnm, hfr, hlc⟩ := hF
  exact List.forall_mem_cons.mpr ⟨⟨RX4, TX4, 5, "StoryColumns$Line", rfl, in_X4, Nat.le_of_ble_eq_true rfl, Or.inr ⟨_, (va_Nw.use rfl (hK.2.1 _ n_q550))⟩, fun _ h => h⟩, fun _ h9 => absurd h9 List.not_mem_nil⟩
theorem fl_X0_125 {G : Cx} {nL fr lc : Nat} {cc : ByteArray} {ret : Option FieldType} {nm : String} (hF : FX G cc nL RX0 ret nm fr lc) : ∀ c ∈ [4], GF G RX0 125 c 1 := by
  obtain ⟨⟨p, l, e, R, s, m, args, below, meth, c0⟩, A, D, dA, mi⟩ := G
  obtain ⟨hx, hb, hml, hown, hts, hr, hlk, hK, hnm, hfr, hlc⟩ := hF
  exact List.forall_mem_cons.mpr ⟨⟨RX4, TX4, 5, "StoryColumns$Line", rfl, in_X4, Nat.le_of_ble_eq_true rfl, Or.inr ⟨_, (va_Nw.use rfl (hK.2.1 _ n_q545))⟩, fun _ h => h⟩, fun _ h9 => absurd h9 List.not_mem_nil⟩
theorem pl_X0_43 {G : Cx} {nL fr lc : Nat} {cc : ByteArray} {ret : Option FieldType} {nm : String} (hF : FX G cc nL RX0 ret nm fr lc) (x9 : Int32) : ∀ c ∈ [4], PF G RX0 nm 43 c 3 (.int x9) := by
  obtain ⟨⟨p, l, e, R, s, m, args, below, meth, c0⟩, A, D, dA, mi⟩ := G
  obtain ⟨hx, hb, hml, hown, hts, hr, hlk, hK, hnm, hfr, hlc⟩ := hF
  exact List.forall_mem_cons.mpr ⟨⟨RX4, TX4, 5, "StoryColumns$Line", tyX4 3, rfl, in_X4, Nat.le_of_ble_eq_true rfl, Or.inr ⟨rfl, _, (va_Nw.use rfl (hK.2.1 _ n_q550))⟩, fun _ h => h, tyX4_ok 3 (Nat.le_of_ble_eq_true rfl), rfl, rfl, ap_4 hts hK⟩, fun _ h9 => absurd h9 List.not_mem_nil⟩
theorem fl_X0_47 {G : Cx} {nL fr lc : Nat} {cc : ByteArray} {ret : Option FieldType} {nm : String} (hF : FX G cc nL RX0 ret nm fr lc) : ∀ c ∈ [4], GF G RX0 47 c 4 := by
  obtain ⟨⟨p, l, e, R, s, m, args, below, meth, c0⟩, A, D, dA, mi⟩ := G
  obtain ⟨hx, hb, hml, hown, hts, hr, hlk, hK, hnm, hfr, hlc⟩ := hF
  exact List.forall_mem_cons.mpr ⟨⟨RX4, TX4, 5, "StoryColumns$Line", rfl, in_X4, Nat.le_of_ble_eq_true rfl, Or.inr ⟨_, (va_Nw.use rfl (hK.2.1 _ n_q553))⟩, fun _ h => h⟩, fun _ h9 => absurd h9 List.not_mem_nil⟩
theorem pl_X0_47 {G : Cx} {nL fr lc : Nat} {cc : ByteArray} {ret : Option FieldType} {nm : String} (hF : FX G cc nL RX0 ret nm fr lc) (x9 : Int32) : ∀ c ∈ [4], PF G RX0 nm 47 c 4 (.int x9) := by
  obtain ⟨⟨p, l, e, R, s, m, args, below, meth, c0⟩, A, D, dA, mi⟩ := G
  obtain ⟨hx, hb, hml, hown, hts, hr, hlk, hK, hnm, hfr, hlc⟩ := hF
  exact List.forall_mem_cons.mpr ⟨⟨RX4, TX4, 5, "StoryColumns$Line", tyX4 4, rfl, in_X4, Nat.le_of_ble_eq_true rfl, Or.inr ⟨rfl, _, (va_Nw.use rfl (hK.2.1 _ n_q553))⟩, fun _ h => h, tyX4_ok 4 (Nat.le_of_ble_eq_true rfl), rfl, rfl, ap_4 hts hK⟩, fun _ h9 => absurd h9 List.not_mem_nil⟩
theorem fl_X0_128 {G : Cx} {nL fr lc : Nat} {cc : ByteArray} {ret : Option FieldType} {nm : String} (hF : FX G cc nL RX0 ret nm fr lc) : ∀ c ∈ [4], GF G RX0 128 c 2 := by
  obtain ⟨⟨p, l, e, R, s, m, args, below, meth, c0⟩, A, D, dA, mi⟩ := G
  obtain ⟨hx, hb, hml, hown, hts, hr, hlk, hK, hnm, hfr, hlc⟩ := hF
  exact List.forall_mem_cons.mpr ⟨⟨RX4, TX4, 5, "StoryColumns$Line", rfl, in_X4, Nat.le_of_ble_eq_true rfl, Or.inr ⟨_, (va_Nw.use rfl (hK.2.1 _ n_q548))⟩, fun _ h => h⟩, fun _ h9 => absurd h9 List.not_mem_nil⟩
theorem pl_X0_128 {G : Cx} {nL fr lc : Nat} {cc : ByteArray} {ret : Option FieldType} {nm : String} (hF : FX G cc nL RX0 ret nm fr lc) (x9 : Int32) : ∀ c ∈ [4], PF G RX0 nm 128 c 2 (.int x9) := by
  obtain ⟨⟨p, l, e, R, s, m, args, below, meth, c0⟩, A, D, dA, mi⟩ := G
  obtain ⟨hx, hb, hml, hown, hts, hr, hlk, hK, hnm, hfr, hlc⟩ := hF
  exact List.forall_mem_cons.mpr ⟨⟨RX4, TX4, 5, "StoryColumns$Line", tyX4 2, rfl, in_X4, Nat.le_of_ble_eq_true rfl, Or.inr ⟨rfl, _, (va_Nw.use rfl (hK.2.1 _ n_q548))⟩, fun _ h => h, tyX4_ok 2 (Nat.le_of_ble_eq_true rfl), rfl, rfl, ap_4 hts hK⟩, fun _ h9 => absurd h9 List.not_mem_nil⟩
theorem fl_X0_119 {G : Cx} {nL fr lc : Nat} {cc : ByteArray} {ret : Option FieldType} {nm : String} (hF : FX G cc nL RX0 ret nm fr lc) : ∀ c ∈ [2, 3], GF G RX0 119 c 3 := by
  obtain ⟨⟨p, l, e, R, s, m, args, below, meth, c0⟩, A, D, dA, mi⟩ := G
  obtain ⟨hx, hb, hml, hown, hts, hr, hlk, hK, hnm, hfr, hlc⟩ := hF
  exact List.forall_mem_cons.mpr ⟨⟨RX2, TX2, 13, "StoryColumns$Block", rfl, in_X2, Nat.le_of_ble_eq_true rfl, Or.inl (hts _ q194), fun _ h => h⟩, List.forall_mem_cons.mpr ⟨⟨RX3, TX3, 14, "StoryColumns$Block", rfl, in_X3, Nat.le_of_ble_eq_true rfl, Or.inl (hts _ q194), fun _ h => h⟩, fun _ h9 => absurd h9 List.not_mem_nil⟩⟩
theorem fl_X0_122 {G : Cx} {nL fr lc : Nat} {cc : ByteArray} {ret : Option FieldType} {nm : String} (hF : FX G cc nL RX0 ret nm fr lc) : ∀ c ∈ [2, 3], GF G RX0 122 c 4 := by
  obtain ⟨⟨p, l, e, R, s, m, args, below, meth, c0⟩, A, D, dA, mi⟩ := G
  obtain ⟨hx, hb, hml, hown, hts, hr, hlk, hK, hnm, hfr, hlc⟩ := hF
  exact List.forall_mem_cons.mpr ⟨⟨RX2, TX2, 13, "StoryColumns$Block", rfl, in_X2, Nat.le_of_ble_eq_true rfl, Or.inl (hts _ q196), fun _ h => h⟩, List.forall_mem_cons.mpr ⟨⟨RX3, TX3, 14, "StoryColumns$Block", rfl, in_X3, Nat.le_of_ble_eq_true rfl, Or.inl (hts _ q196), fun _ h => h⟩, fun _ h9 => absurd h9 List.not_mem_nil⟩⟩
theorem pl_X0_119 {G : Cx} {nL fr lc : Nat} {cc : ByteArray} {ret : Option FieldType} {nm : String} (hF : FX G cc nL RX0 ret nm fr lc) (x9 : Int32) : ∀ c ∈ [2, 3], PF G RX0 nm 119 c 3 (.int x9) := by
  obtain ⟨⟨p, l, e, R, s, m, args, below, meth, c0⟩, A, D, dA, mi⟩ := G
  obtain ⟨hx, hb, hml, hown, hts, hr, hlk, hK, hnm, hfr, hlc⟩ := hF
  exact List.forall_mem_cons.mpr ⟨⟨RX2, TX2, 13, "StoryColumns$Block", tyX2 3, rfl, in_X2, Nat.le_of_ble_eq_true rfl, Or.inl ⟨(hts _ q194), Or.inl rfl⟩, fun _ h => h, tyX2_ok 3 (Nat.le_of_ble_eq_true rfl), rfl, rfl, ap_2 hts hK⟩, List.forall_mem_cons.mpr ⟨⟨RX3, TX3, 14, "StoryColumns$Block", tyX3 3, rfl, in_X3, Nat.le_of_ble_eq_true rfl, Or.inl ⟨(hts _ q194), Or.inl rfl⟩, fun _ h => h, tyX3_ok 3 (Nat.le_of_ble_eq_true rfl), rfl, rfl, ap_3 hts hK⟩, fun _ h9 => absurd h9 List.not_mem_nil⟩⟩
theorem pl_X0_122 {G : Cx} {nL fr lc : Nat} {cc : ByteArray} {ret : Option FieldType} {nm : String} (hF : FX G cc nL RX0 ret nm fr lc) (x9 : Int32) : ∀ c ∈ [2, 3], PF G RX0 nm 122 c 4 (.int x9) := by
  obtain ⟨⟨p, l, e, R, s, m, args, below, meth, c0⟩, A, D, dA, mi⟩ := G
  obtain ⟨hx, hb, hml, hown, hts, hr, hlk, hK, hnm, hfr, hlc⟩ := hF
  exact List.forall_mem_cons.mpr ⟨⟨RX2, TX2, 13, "StoryColumns$Block", tyX2 4, rfl, in_X2, Nat.le_of_ble_eq_true rfl, Or.inl ⟨(hts _ q196), Or.inl rfl⟩, fun _ h => h, tyX2_ok 4 (Nat.le_of_ble_eq_true rfl), rfl, rfl, ap_2 hts hK⟩, List.forall_mem_cons.mpr ⟨⟨RX3, TX3, 14, "StoryColumns$Block", tyX3 4, rfl, in_X3, Nat.le_of_ble_eq_true rfl, Or.inl ⟨(hts _ q196), Or.inl rfl⟩, fun _ h => h, tyX3_ok 4 (Nat.le_of_ble_eq_true rfl), rfl, rfl, ap_3 hts hK⟩, fun _ h9 => absurd h9 List.not_mem_nil⟩⟩
def fX0_turn_J187 (r91 : Option Nat → Int32 → Option Nat → Mp → Nat → Rs Int32) (l0 : Option Nat) (l1 : Int32) (l2 : Option Nat) (s0 : Option Nat) (s1 : Int32) (M : Mp) (z : Nat) : Rs Int32 := (pu M s0 [4] 2 (.int s1)).bind fun M1 =>
r91 l0 l1 l2 M1 z

theorem gX0_turn_J187 {G : Cx} {F : Option Value × Mp × Nat}  {r91 : Option Nat → Int32 → Option Nat → Mp → Nat → Rs Int32}(hF : FX G cX0_turn 6 RX0 (Option.some Jvm.ClassFile.FieldType.int) "turn" 3 61) (hr91 : ∀ l0 l1 l2 M z, SK G F 6 eI 91 [some (va_rf l0), some (.int l1), some (va_rf l2), none, none, none] [] M z (r91 l0 l1 l2 M z)) (l0 : Option Nat) (l1 : Int32) (l2 : Option Nat) (s0 : Option Nat) (s1 : Int32) (M : Mp) (z : Nat) : SK G F 6 eI 187 [some (va_rf l0), some (.int l1), some (va_rf l2), none, none, none] [.int s1, va_rf s0] M z (fX0_turn_J187 r91 l0 l1 l2 s0 s1 M z) := by
  unfold fX0_turn_J187
  refine s_put (pc := 187) hF (pl_X0_128 hF _) dX0_turn_187 (fun M1 => ?_)
  refine s_goto (pc := 190) hF 91 dX0_turn_190 rfl ?_
  exact SK.sb (hr91 l0 l1 l2 M1 z) ⟨rfl, ⟨rfl, ⟨rfl, trivial⟩⟩⟩

def fX0_turn_J161 (r91 : Option Nat → Int32 → Option Nat → Mp → Nat → Rs Int32) (l0 : Option Nat) (l1 : Int32) (l2 : Option Nat) (l3 : Option Nat) (s0 : Option Nat) (s1 : Int32) (M : Mp) (z : Nat) : Rs Int32 := (pu M s0 [4] 4 (.int s1)).bind fun M1 =>
(gi M1 l3 [4] 1).bind fun v2 =>
if v2 = (1 : Int32) then
  ((gi M1 l3 [4] 2).bind fun v4 =>
fX0_turn_J187 r91 l0 l1 l2 l3 v4 M1 z)
else
  ((gi M1 l3 [4] 2).bind fun v3 =>
fX0_turn_J187 r91 l0 l1 l2 l3 ((8 : Int32) - v3) M1 z)

theorem gX0_turn_J161 {G : Cx} {F : Option Value × Mp × Nat}  {r91 : Option Nat → Int32 → Option Nat → Mp → Nat → Rs Int32}(hF : FX G cX0_turn 6 RX0 (Option.some Jvm.ClassFile.FieldType.int) "turn" 3 61) (hr91 : ∀ l0 l1 l2 M z, SK G F 6 eI 91 [some (va_rf l0), some (.int l1), some (va_rf l2), none, none, none] [] M z (r91 l0 l1 l2 M z)) (l0 : Option Nat) (l1 : Int32) (l2 : Option Nat) (l3 : Option Nat) (s0 : Option Nat) (s1 : Int32) (M : Mp) (z : Nat) : SK G F 6 eI 161 [some (va_rf l0), some (.int l1), some (va_rf l2), some (va_rf l3), none, none] [.int s1, va_rf s0] M z (fX0_turn_J161 r91 l0 l1 l2 l3 s0 s1 M z) := by
  unfold fX0_turn_J161
  refine s_put (pc := 161) hF (pl_X0_47 hF _) dX0_turn_161 (fun M1 => ?_)
  refine s_aload_n (pc := 164) hF dX0_turn_164 rfl rfl ?_
  refine s_aload_n (pc := 165) hF dX0_turn_165 rfl rfl ?_
  refine s_geti (pc := 166) hF (fl_X0_125 hF) dX0_turn_166 (fun v2 => ?_)
  refine s_iconst (pc := 169) hF dX0_turn_169 (1 : Int32) (by decide) ?_
  refine s_icmp_ne (pc := 170) hF 180 dX0_turn_170 rfl ?_ ?_
  · refine s_bipush (pc := 180) hF dX0_turn_180 (8 : Int32) (by decide) ?_
    refine s_aload_n (pc := 182) hF dX0_turn_182 rfl rfl ?_
    refine s_geti (pc := 183) hF (fl_X0_128 hF) dX0_turn_183 (fun v3 => ?_)
    refine s_isub (pc := 186) hF dX0_turn_186 ?_
    exact SK.sb (gX0_turn_J187 hF hr91 l0 l1 l2 l3 ((8 : Int32) - v3) M1 z) ⟨rfl, ⟨rfl, ⟨rfl, trivial⟩⟩⟩
  · refine s_aload_n (pc := 173) hF dX0_turn_173 rfl rfl ?_
    refine s_geti (pc := 174) hF (fl_X0_128 hF) dX0_turn_174 (fun v4 => ?_)
    refine s_goto (pc := 177) hF 187 dX0_turn_177 rfl ?_
    exact SK.sb (gX0_turn_J187 hF hr91 l0 l1 l2 l3 v4 M1 z) ⟨rfl, ⟨rfl, ⟨rfl, trivial⟩⟩⟩

def fX0_turn_J137 (r91 : Option Nat → Int32 → Option Nat → Mp → Nat → Rs Int32) (l0 : Option Nat) (l1 : Int32) (l2 : Option Nat) (l3 : Option Nat) (l4 : Int32) (s0 : Option Nat) (s1 : Int32) (M : Mp) (z : Nat) : Rs Int32 := (pu M s0 [4] 3 (.int s1)).bind fun M1 =>
(gi M1 l3 [4] 1).bind fun v2 =>
if v2 = (1 : Int32) then
  (fX0_turn_J161 r91 l0 l1 l2 l3 l3 ((7 : Int32) - l4) M1 z)
else
  ((gi M1 l3 [4] 4).bind fun v3 =>
fX0_turn_J161 r91 l0 l1 l2 l3 l3 v3 M1 z)

theorem gX0_turn_J137 {G : Cx} {F : Option Value × Mp × Nat}  {r91 : Option Nat → Int32 → Option Nat → Mp → Nat → Rs Int32}(hF : FX G cX0_turn 6 RX0 (Option.some Jvm.ClassFile.FieldType.int) "turn" 3 61) (hr91 : ∀ l0 l1 l2 M z, SK G F 6 eI 91 [some (va_rf l0), some (.int l1), some (va_rf l2), none, none, none] [] M z (r91 l0 l1 l2 M z)) (l0 : Option Nat) (l1 : Int32) (l2 : Option Nat) (l3 : Option Nat) (l4 : Int32) (s0 : Option Nat) (s1 : Int32) (M : Mp) (z : Nat) : SK G F 6 eI 137 [some (va_rf l0), some (.int l1), some (va_rf l2), some (va_rf l3), some (.int l4), none] [.int s1, va_rf s0] M z (fX0_turn_J137 r91 l0 l1 l2 l3 l4 s0 s1 M z) := by
  unfold fX0_turn_J137
  refine s_put (pc := 137) hF (pl_X0_43 hF _) dX0_turn_137 (fun M1 => ?_)
  refine s_aload_n (pc := 140) hF dX0_turn_140 rfl rfl ?_
  refine s_aload_n (pc := 141) hF dX0_turn_141 rfl rfl ?_
  refine s_geti (pc := 142) hF (fl_X0_125 hF) dX0_turn_142 (fun v2 => ?_)
  refine s_iconst (pc := 145) hF dX0_turn_145 (1 : Int32) (by decide) ?_
  refine s_icmp_ne (pc := 146) hF 157 dX0_turn_146 rfl ?_ ?_
  · refine s_aload_n (pc := 157) hF dX0_turn_157 rfl rfl ?_
    refine s_geti (pc := 158) hF (fl_X0_47 hF) dX0_turn_158 (fun v3 => ?_)
    exact SK.sb (gX0_turn_J161 hF hr91 l0 l1 l2 l3 l3 v3 M1 z) ⟨rfl, ⟨rfl, ⟨rfl, ⟨rfl, trivial⟩⟩⟩⟩
  · refine s_bipush (pc := 149) hF dX0_turn_149 (7 : Int32) (by decide) ?_
    refine s_iload (pc := 151) hF dX0_turn_151 rfl ?_
    refine s_isub (pc := 153) hF dX0_turn_153 ?_
    refine s_goto (pc := 154) hF 161 dX0_turn_154 rfl ?_
    exact SK.sb (gX0_turn_J161 hF hr91 l0 l1 l2 l3 l3 ((7 : Int32) - l4) M1 z) ⟨rfl, ⟨rfl, ⟨rfl, ⟨rfl, trivial⟩⟩⟩⟩

def fX0_turn_L91 : Nat → Option Nat → Int32 → Option Nat → Mp → Nat → Rs Int32
  | 0, _, _, _, _, _ => none
  | fu + 1, l0, l1, l2, M, z => if ckc M l2 [12] = true then
  (cb (fJ3_hasNext l2 M z) z fun v1 M2 z3 =>
if v1 = 0 then
  (if ckc M2 l0 [0] = true then
  (cb (fX0_changed l0 l1 M2 z3) z3 fun v4 M5 z6 =>
some (v4, M5, 0, 0))
else none)
else
  (if ckc M2 l2 [12] = true then
  (cb (fJ3_next l2 M2 z3) z3 fun v7 M8 z9 =>
if cst M8 v7 [4] = true then
  ((gi M8 v7 [4] 3).bind fun v10 =>
(gi M8 v7 [4] 1).bind fun v11 =>
if v11 = (1 : Int32) then
  ((gi M8 v7 [4] 4).bind fun v12 =>
fX0_turn_J137 (fX0_turn_L91 fu) l0 l1 l2 v7 v10 v7 ((7 : Int32) - v12) M8 z9)
else
  (fX0_turn_J137 (fX0_turn_L91 fu) l0 l1 l2 v7 v10 v7 v10 M8 z9))
else none)
else none))
else none

theorem gX0_turn_L91 {G : Cx} {F : Option Value × Mp × Nat} (hF : FX G cX0_turn 6 RX0 (Option.some Jvm.ClassFile.FieldType.int) "turn" 3 61) : ∀ (fu : Nat) (l0 : Option Nat) (l1 : Int32) (l2 : Option Nat) (M : Mp) (z : Nat), SK G F 6 eI 91 [some (va_rf l0), some (.int l1), some (va_rf l2), none, none, none] [] M z (fX0_turn_L91 fu l0 l1 l2 M z) := by
  intro fu
  induction fu with
  | zero => intros; exact SK.fail
  | succ fu ih =>
    intro l0 l1 l2 M z
    rw [fX0_turn_L91]
    refine s_aload_n (pc := 91) hF dX0_turn_91 rfl rfl ?_
    refine s_callF (pc := 92) (As := []) (st := []) (stf := fun r9 => .int r9 :: []) (x := ⟨"java/util/Iterator", "hasNext", "()Z"⟩) hF (mJ3_hasNext l2) cw_J3_hasNext rfl ⟨by decide, by decide⟩ q298 q325 n_q300 n_q299 n_q326 (List.forall_mem_cons.mpr ⟨⟨(RJ3, TJ3, 4), rfl, q323, n_q324, n_q322⟩, fun _ h9 => absurd h9 List.not_mem_nil⟩) rfl ⟨Nat.le_of_ble_eq_true rfl, Nat.le_of_ble_eq_true rfl⟩ ⟨trivial, Nat.le_of_ble_eq_true rfl⟩ dX0_turn_92 rfl (fun _ => rfl) (fun v1 M2 z3 => ?_)
    refine s_if_eq (pc := 97) hF 193 dX0_turn_97 rfl ?_ ?_
    · refine s_aload_n (pc := 193) hF dX0_turn_193 rfl rfl ?_
      refine s_iload_n (pc := 194) hF dX0_turn_194 rfl rfl ?_
      refine s_callV (pc := 195) (As := [.int l1]) (st := []) (stf := fun r9 => .int r9 :: []) hF (mX0_changed l0 l1) cw_X0_changed q510 q512 (List.forall_mem_cons.mpr ⟨⟨(RX0, TX0, 6), rfl, qs4⟩, fun _ h9 => absurd h9 List.not_mem_nil⟩) rfl ⟨Nat.le_of_ble_eq_true rfl, Nat.le_of_ble_eq_true rfl⟩ ⟨trivial, Nat.le_of_ble_eq_true rfl⟩ dX0_turn_195 rfl (fun _ => rfl) (fun v4 M5 z6 => ?_)
      exact s_iret (pc := 198) hF dX0_turn_198
    · refine s_aload_n (pc := 100) hF dX0_turn_100 rfl rfl ?_
      refine s_callF (pc := 101) (As := []) (st := []) (stf := fun r9 => va_rf r9 :: []) (x := ⟨"java/util/Iterator", "next", "()Ljava/lang/Object;"⟩) hF (mJ3_next l2) cw_J3_next rfl ⟨by decide, by decide⟩ q381 q372 n_q331 n_q330 n_q373 (List.forall_mem_cons.mpr ⟨⟨(RJ3, TJ3, 4), rfl, q370, n_q371, n_q322⟩, fun _ h9 => absurd h9 List.not_mem_nil⟩) rfl ⟨Nat.le_of_ble_eq_true rfl, Nat.le_of_ble_eq_true rfl⟩ ⟨trivial, Nat.le_of_ble_eq_true rfl⟩ dX0_turn_101 rfl (fun _ => rfl) (fun v7 M8 z9 => ?_)
      refine s_cast (pc := 106) hF q534 (List.forall_mem_cons.mpr ⟨⟨(RX4, TX4, 5), rfl, Or.inl rfl⟩, fun _ h9 => absurd h9 List.not_mem_nil⟩) dX0_turn_106 ?_
      refine s_astore_n (L9 := [some (va_rf l0), some (.int l1), some (va_rf l2), some (va_rf v7), none, none]) (pc := 109) hF dX0_turn_109 rfl (Nat.le_of_ble_eq_true rfl) rfl ?_
      refine s_aload_n (pc := 110) hF dX0_turn_110 rfl rfl ?_
      refine s_geti (pc := 111) hF (fl_X0_43 hF) dX0_turn_111 (fun v10 => ?_)
      refine s_istore (L9 := [some (va_rf l0), some (.int l1), some (va_rf l2), some (va_rf v7), some (.int v10), none]) (pc := 114) hF dX0_turn_114 (Nat.le_of_ble_eq_true rfl) rfl ?_
      refine s_aload_n (pc := 116) hF dX0_turn_116 rfl rfl ?_
      refine s_aload_n (pc := 117) hF dX0_turn_117 rfl rfl ?_
      refine s_geti (pc := 118) hF (fl_X0_125 hF) dX0_turn_118 (fun v11 => ?_)
      refine s_iconst (pc := 121) hF dX0_turn_121 (1 : Int32) (by decide) ?_
      refine s_icmp_ne (pc := 122) hF 135 dX0_turn_122 rfl ?_ ?_
      · refine s_iload (pc := 135) hF dX0_turn_135 rfl ?_
        exact SK.sb (gX0_turn_J137 hF ih l0 l1 l2 v7 v10 v7 v10 M8 z9) ⟨rfl, ⟨rfl, ⟨rfl, ⟨rfl, ⟨rfl, trivial⟩⟩⟩⟩⟩
      · refine s_bipush (pc := 125) hF dX0_turn_125 (7 : Int32) (by decide) ?_
        refine s_aload_n (pc := 127) hF dX0_turn_127 rfl rfl ?_
        refine s_geti (pc := 128) hF (fl_X0_47 hF) dX0_turn_128 (fun v12 => ?_)
        refine s_isub (pc := 131) hF dX0_turn_131 ?_
        refine s_goto (pc := 132) hF 137 dX0_turn_132 rfl ?_
        exact SK.sb (gX0_turn_J137 hF ih l0 l1 l2 v7 v10 v7 ((7 : Int32) - v12) M8 z9) ⟨rfl, ⟨rfl, ⟨rfl, ⟨rfl, ⟨rfl, trivial⟩⟩⟩⟩⟩

def fX0_turn_J76 (r12 : Option Nat → Int32 → Option Nat → Mp → Nat → Rs Int32) (l0 : Option Nat) (l2 : Option Nat) (s0 : Int32) (s1 : Int32) (M : Mp) (z : Nat) : Rs Int32 := r12 l0 (s0 + s1) l2 M z

theorem gX0_turn_J76 {G : Cx} {F : Option Value × Mp × Nat}  {r12 : Option Nat → Int32 → Option Nat → Mp → Nat → Rs Int32}(hF : FX G cX0_turn 6 RX0 (Option.some Jvm.ClassFile.FieldType.int) "turn" 3 61) (hr12 : ∀ l0 l1 l2 M z, SK G F 6 eI 12 [some (va_rf l0), some (.int l1), some (va_rf l2), none, none, none] [] M z (r12 l0 l1 l2 M z)) (l0 : Option Nat) (l2 : Option Nat) (s0 : Int32) (s1 : Int32) (M : Mp) (z : Nat) : SK G F 6 eI 76 [some (va_rf l0), none, some (va_rf l2), none, none, none] [.int s1, .int s0] M z (fX0_turn_J76 r12 l0 l2 s0 s1 M z) := by
  unfold fX0_turn_J76
  refine s_iadd (pc := 76) hF dX0_turn_76 ?_
  refine s_istore_n (L9 := [some (va_rf l0), some (.int (s0 + s1)), some (va_rf l2), none, none, none]) (pc := 77) hF dX0_turn_77 rfl (Nat.le_of_ble_eq_true rfl) rfl ?_
  refine s_goto (pc := 78) hF 12 dX0_turn_78 rfl ?_
  exact SK.sb (hr12 l0 (s0 + s1) l2 M z) ⟨rfl, ⟨rfl, ⟨rfl, trivial⟩⟩⟩

def fX0_turn_L12 : Nat → Option Nat → Int32 → Option Nat → Mp → Nat → Rs Int32
  | 0, _, _, _, _, _ => none
  | fu + 1, l0, l1, l2, M, z => if ckc M l2 [12] = true then
  (cb (fJ3_hasNext l2 M z) z fun v1 M2 z3 =>
if v1 = 0 then
  ((gr M2 l0 [0] 1).bind fun v4 =>
if ckc M2 v4 [11] = true then
  (cb (fJ2_iterator v4 M2 z3) z3 fun v5 M6 z7 =>
fX0_turn_L91 FU l0 l1 v5 M6 z7)
else none)
else
  (if ckc M2 l2 [12] = true then
  (cb (fJ3_next l2 M2 z3) z3 fun v8 M9 z10 =>
if cst M9 v8 [2, 3] = true then
  ((gi M9 v8 [2, 3] 3).bind fun v11 =>
(gi M9 v8 [2, 3] 4).bind fun v12 =>
(pu M9 v8 [2, 3] 3 (.int ((7 : Int32) - v12))).bind fun M13 =>
(pu M13 v8 [2, 3] 4 (.int ((7 : Int32) - v11))).bind fun M14 =>
(gi M14 v8 [2, 3] 3).bind fun v15 =>
if v15 = v11 then
  (fX0_turn_J76 (fX0_turn_L12 fu) l0 l2 l1 (0 : Int32) M14 z10)
else
  (fX0_turn_J76 (fX0_turn_L12 fu) l0 l2 l1 (1 : Int32) M14 z10))
else none)
else none))
else none

theorem gX0_turn_L12 {G : Cx} {F : Option Value × Mp × Nat} (hF : FX G cX0_turn 6 RX0 (Option.some Jvm.ClassFile.FieldType.int) "turn" 3 61) : ∀ (fu : Nat) (l0 : Option Nat) (l1 : Int32) (l2 : Option Nat) (M : Mp) (z : Nat), SK G F 6 eI 12 [some (va_rf l0), some (.int l1), some (va_rf l2), none, none, none] [] M z (fX0_turn_L12 fu l0 l1 l2 M z) := by
  intro fu
  induction fu with
  | zero => intros; exact SK.fail
  | succ fu ih =>
    intro l0 l1 l2 M z
    rw [fX0_turn_L12]
    refine s_aload_n (pc := 12) hF dX0_turn_12 rfl rfl ?_
    refine s_callF (pc := 13) (As := []) (st := []) (stf := fun r9 => .int r9 :: []) (x := ⟨"java/util/Iterator", "hasNext", "()Z"⟩) hF (mJ3_hasNext l2) cw_J3_hasNext rfl ⟨by decide, by decide⟩ q298 q325 n_q300 n_q299 n_q326 (List.forall_mem_cons.mpr ⟨⟨(RJ3, TJ3, 4), rfl, q323, n_q324, n_q322⟩, fun _ h9 => absurd h9 List.not_mem_nil⟩) rfl ⟨Nat.le_of_ble_eq_true rfl, Nat.le_of_ble_eq_true rfl⟩ ⟨trivial, Nat.le_of_ble_eq_true rfl⟩ dX0_turn_13 rfl (fun _ => rfl) (fun v1 M2 z3 => ?_)
    refine s_if_eq (pc := 18) hF 81 dX0_turn_18 rfl ?_ ?_
    · refine s_aload_n (pc := 81) hF dX0_turn_81 rfl rfl ?_
      refine s_getr (pc := 82) hF (fl_X0_18 hF) dX0_turn_82 (fun v4 => ?_)
      refine s_callF (pc := 85) (As := []) (st := []) (stf := fun r9 => va_rf r9 :: []) (x := ⟨"java/util/List", "iterator", "()Ljava/util/Iterator;"⟩) hF (mJ2_iterator v4) cw_J2_iterator rfl ⟨by decide, by decide⟩ q270 q275 n_q272 n_q271 n_q276 (List.forall_mem_cons.mpr ⟨⟨(RJ2, TJ2, 3), rfl, q273, n_q274, n_q155⟩, fun _ h9 => absurd h9 List.not_mem_nil⟩) rfl ⟨Nat.le_of_ble_eq_true rfl, Nat.le_of_ble_eq_true rfl⟩ ⟨trivial, Nat.le_of_ble_eq_true rfl⟩ dX0_turn_85 rfl (fun _ => rfl) (fun v5 M6 z7 => ?_)
      refine s_astore_n (L9 := [some (va_rf l0), some (.int l1), some (va_rf v5), none, none, none]) (pc := 90) hF dX0_turn_90 rfl (Nat.le_of_ble_eq_true rfl) rfl ?_
      exact SK.sb (gX0_turn_L91 hF FU l0 l1 v5 M6 z7) ⟨rfl, ⟨rfl, ⟨rfl, trivial⟩⟩⟩
    · refine s_aload_n (pc := 21) hF dX0_turn_21 rfl rfl ?_
      refine s_callF (pc := 22) (As := []) (st := []) (stf := fun r9 => va_rf r9 :: []) (x := ⟨"java/util/Iterator", "next", "()Ljava/lang/Object;"⟩) hF (mJ3_next l2) cw_J3_next rfl ⟨by decide, by decide⟩ q381 q372 n_q331 n_q330 n_q373 (List.forall_mem_cons.mpr ⟨⟨(RJ3, TJ3, 4), rfl, q370, n_q371, n_q322⟩, fun _ h9 => absurd h9 List.not_mem_nil⟩) rfl ⟨Nat.le_of_ble_eq_true rfl, Nat.le_of_ble_eq_true rfl⟩ ⟨trivial, Nat.le_of_ble_eq_true rfl⟩ dX0_turn_22 rfl (fun _ => rfl) (fun v8 M9 z10 => ?_)
      refine s_cast (pc := 27) hF q252 (List.forall_mem_cons.mpr ⟨⟨(RX2, TX2, 13), rfl, Or.inl rfl⟩, List.forall_mem_cons.mpr ⟨⟨(RX3, TX3, 14), rfl, Or.inr n_q1359⟩, fun _ h9 => absurd h9 List.not_mem_nil⟩⟩) dX0_turn_27 ?_
      refine s_astore_n (L9 := [some (va_rf l0), some (.int l1), some (va_rf l2), some (va_rf v8), none, none]) (pc := 30) hF dX0_turn_30 rfl (Nat.le_of_ble_eq_true rfl) rfl ?_
      refine s_aload_n (pc := 31) hF dX0_turn_31 rfl rfl ?_
      refine s_geti (pc := 32) hF (fl_X0_119 hF) dX0_turn_32 (fun v11 => ?_)
      refine s_istore (L9 := [some (va_rf l0), some (.int l1), some (va_rf l2), some (va_rf v8), some (.int v11), none]) (pc := 35) hF dX0_turn_35 (Nat.le_of_ble_eq_true rfl) rfl ?_
      refine s_aload_n (pc := 37) hF dX0_turn_37 rfl rfl ?_
      refine s_geti (pc := 38) hF (fl_X0_122 hF) dX0_turn_38 (fun v12 => ?_)
      refine s_istore (L9 := [some (va_rf l0), some (.int l1), some (va_rf l2), some (va_rf v8), some (.int v11), some (.int v12)]) (pc := 41) hF dX0_turn_41 (Nat.le_of_ble_eq_true rfl) rfl ?_
      refine s_aload_n (pc := 43) hF dX0_turn_43 rfl rfl ?_
      refine s_bipush (pc := 44) hF dX0_turn_44 (7 : Int32) (by decide) ?_
      refine s_iload (pc := 46) hF dX0_turn_46 rfl ?_
      refine s_isub (pc := 48) hF dX0_turn_48 ?_
      refine s_put (pc := 49) hF (pl_X0_119 hF _) dX0_turn_49 (fun M13 => ?_)
      refine s_aload_n (pc := 52) hF dX0_turn_52 rfl rfl ?_
      refine s_bipush (pc := 53) hF dX0_turn_53 (7 : Int32) (by decide) ?_
      refine s_iload (pc := 55) hF dX0_turn_55 rfl ?_
      refine s_isub (pc := 57) hF dX0_turn_57 ?_
      refine s_put (pc := 58) hF (pl_X0_122 hF _) dX0_turn_58 (fun M14 => ?_)
      refine s_iload_n (pc := 61) hF dX0_turn_61 rfl rfl ?_
      refine s_aload_n (pc := 62) hF dX0_turn_62 rfl rfl ?_
      refine s_geti (pc := 63) hF (fl_X0_119 hF) dX0_turn_63 (fun v15 => ?_)
      refine s_iload (pc := 66) hF dX0_turn_66 rfl ?_
      refine s_icmp_ne (pc := 68) hF 75 dX0_turn_68 rfl ?_ ?_
      · refine s_iconst (pc := 75) hF dX0_turn_75 (1 : Int32) (by decide) ?_
        exact SK.sb (gX0_turn_J76 hF ih l0 l2 l1 (1 : Int32) M14 z10) ⟨rfl, ⟨rfl, trivial⟩⟩
      · refine s_iconst (pc := 71) hF dX0_turn_71 (0 : Int32) (by decide) ?_
        refine s_goto (pc := 72) hF 76 dX0_turn_72 rfl ?_
        exact SK.sb (gX0_turn_J76 hF ih l0 l2 l1 (0 : Int32) M14 z10) ⟨rfl, ⟨rfl, trivial⟩⟩
def fX0_turn (a0 : Option Nat) (M : Mp) (z : Nat) : Rs Int32 := (gr M a0 [0] 0).bind fun v1 =>
if ckc M v1 [11] = true then
  (cb (fJ2_iterator v1 M z) z fun v2 M3 z4 =>
fX0_turn_L12 FU a0 (0 : Int32) v2 M3 z4)
else none
theorem gX0_turn {G : Cx} {F : Option Value × Mp × Nat} (hF : FX G cX0_turn 6 RX0 (Option.some Jvm.ClassFile.FieldType.int) "turn" 3 61) (a0 : Option Nat) (M : Mp) (z : Nat) : SK G F 6 eI 0 [some (va_rf a0), none, none, none, none, none] [] M z (fX0_turn a0 M z) := by
  unfold fX0_turn
  refine s_iconst (pc := 0) hF dX0_turn_0 (0 : Int32) (by decide) ?_
  refine s_istore_n (L9 := [some (va_rf a0), some (.int (0 : Int32)), none, none, none, none]) (pc := 1) hF dX0_turn_1 rfl (Nat.le_of_ble_eq_true rfl) rfl ?_
  refine s_aload_n (pc := 2) hF dX0_turn_2 rfl rfl ?_
  refine s_getr (pc := 3) hF (fl_X0_14 hF) dX0_turn_3 (fun v1 => ?_)
  refine s_callF (pc := 6) (As := []) (st := []) (stf := fun r9 => va_rf r9 :: []) (x := ⟨"java/util/List", "iterator", "()Ljava/util/Iterator;"⟩) hF (mJ2_iterator v1) cw_J2_iterator rfl ⟨by decide, by decide⟩ q270 q275 n_q272 n_q271 n_q276 (List.forall_mem_cons.mpr ⟨⟨(RJ2, TJ2, 3), rfl, q273, n_q274, n_q155⟩, fun _ h9 => absurd h9 List.not_mem_nil⟩) rfl ⟨Nat.le_of_ble_eq_true rfl, Nat.le_of_ble_eq_true rfl⟩ ⟨trivial, Nat.le_of_ble_eq_true rfl⟩ dX0_turn_6 rfl (fun _ => rfl) (fun v2 M3 z4 => ?_)
  refine s_astore_n (L9 := [some (va_rf a0), some (.int (0 : Int32)), some (va_rf v2), none, none, none]) (pc := 11) hF dX0_turn_11 rfl (Nat.le_of_ble_eq_true rfl) rfl ?_
  exact SK.sb (gX0_turn_L12 hF FU a0 (0 : Int32) v2 M3 z4) ⟨rfl, ⟨rfl, ⟨rfl, trivial⟩⟩⟩
theorem mX0_turn (a0 : Option Nat) : MT yX0_turn cX0_turn 6 (Option.some Jvm.ClassFile.FieldType.int) 3 61 eI [va_rf a0] (fX0_turn a0) :=
  MT.of (L0 := [some (va_rf a0), none, none, none, none, none]) (by decide) ⟨ct _, trivial⟩ (Nat.le_of_ble_eq_true rfl) rfl (fun _ _ hF M z => gX0_turn hF a0 M z)

theorem fl_X0_131 {G : Cx} {nL fr lc : Nat} {cc : ByteArray} {ret : Option FieldType} {nm : String} (hF : FX G cc nL RX0 ret nm fr lc) : ∀ c ∈ [2, 3], GF G RX0 131 c 1 := by
  obtain ⟨⟨p, l, e, R, s, m, args, below, meth, c0⟩, A, D, dA, mi⟩ := G
  obtain ⟨hx, hb, hml, hown, hts, hr, hlk, hK, hnm, hfr, hlc⟩ := hF
  exact List.forall_mem_cons.mpr ⟨⟨RX2, TX2, 13, "StoryColumns$Block", rfl, in_X2, Nat.le_of_ble_eq_true rfl, Or.inl (hts _ q184), fun _ h => h⟩, List.forall_mem_cons.mpr ⟨⟨RX3, TX3, 14, "StoryColumns$Block", rfl, in_X3, Nat.le_of_ble_eq_true rfl, Or.inl (hts _ q184), fun _ h => h⟩, fun _ h9 => absurd h9 List.not_mem_nil⟩⟩
theorem fl_X0_134 {G : Cx} {nL fr lc : Nat} {cc : ByteArray} {ret : Option FieldType} {nm : String} (hF : FX G cc nL RX0 ret nm fr lc) : ∀ c ∈ [2, 3], GF G RX0 134 c 2 := by
  obtain ⟨⟨p, l, e, R, s, m, args, below, meth, c0⟩, A, D, dA, mi⟩ := G
  obtain ⟨hx, hb, hml, hown, hts, hr, hlk, hK, hnm, hfr, hlc⟩ := hF
  exact List.forall_mem_cons.mpr ⟨⟨RX2, TX2, 13, "StoryColumns$Block", rfl, in_X2, Nat.le_of_ble_eq_true rfl, Or.inl (hts _ q188), fun _ h => h⟩, List.forall_mem_cons.mpr ⟨⟨RX3, TX3, 14, "StoryColumns$Block", rfl, in_X3, Nat.le_of_ble_eq_true rfl, Or.inl (hts _ q188), fun _ h => h⟩, fun _ h9 => absurd h9 List.not_mem_nil⟩⟩
theorem fl_X0_137 {G : Cx} {nL fr lc : Nat} {cc : ByteArray} {ret : Option FieldType} {nm : String} (hF : FX G cc nL RX0 ret nm fr lc) : ∀ c ∈ [2, 3], GF G RX0 137 c 5 := by
  obtain ⟨⟨p, l, e, R, s, m, args, below, meth, c0⟩, A, D, dA, mi⟩ := G
  obtain ⟨hx, hb, hml, hown, hts, hr, hlk, hK, hnm, hfr, hlc⟩ := hF
  exact List.forall_mem_cons.mpr ⟨⟨RX2, TX2, 13, "StoryColumns$Block", rfl, in_X2, Nat.le_of_ble_eq_true rfl, Or.inl (hts _ q200), fun _ h => h⟩, List.forall_mem_cons.mpr ⟨⟨RX3, TX3, 14, "StoryColumns$Block", rfl, in_X3, Nat.le_of_ble_eq_true rfl, Or.inl (hts _ q200), fun _ h => h⟩, fun _ h9 => absurd h9 List.not_mem_nil⟩⟩
theorem fl_X0_140 {G : Cx} {nL fr lc : Nat} {cc : ByteArray} {ret : Option FieldType} {nm : String} (hF : FX G cc nL RX0 ret nm fr lc) : ∀ c ∈ [2, 3], GF G RX0 140 c 6 := by
  obtain ⟨⟨p, l, e, R, s, m, args, below, meth, c0⟩, A, D, dA, mi⟩ := G
  obtain ⟨hx, hb, hml, hown, hts, hr, hlk, hK, hnm, hfr, hlc⟩ := hF
  exact List.forall_mem_cons.mpr ⟨⟨RX2, TX2, 13, "StoryColumns$Block", rfl, in_X2, Nat.le_of_ble_eq_true rfl, Or.inl (hts _ q204), fun _ h => h⟩, List.forall_mem_cons.mpr ⟨⟨RX3, TX3, 14, "StoryColumns$Block", rfl, in_X3, Nat.le_of_ble_eq_true rfl, Or.inl (hts _ q204), fun _ h => h⟩, fun _ h9 => absurd h9 List.not_mem_nil⟩⟩
def fX0_ofBlock (a0 : Option Nat) (a1 : Int32) (a2 : Int32) (M : Mp) (z : Nat) : Rs Int32 := if ckc M a0 [0] = true then
  (cb (fX0_isBlock a0 a1 M z) z fun v1 M2 z3 =>
if v1 = 0 then
  (some ((-1 : Int32), M2, 0, 0))
else
  ((gr M2 a0 [0] 0).bind fun v4 =>
if ckc M2 v4 [11] = true then
  (cb (fJ2_get v4 a1 M2 z3) z3 fun v5 M6 z7 =>
if cst M6 v5 [2, 3] = true then
  (if a2 = 0 then
  ((gi M6 v5 [2, 3] 1).bind fun v8 =>
some (v8, M6, 0, 0))
else if a2 = 1 then
  ((gi M6 v5 [2, 3] 2).bind fun v9 =>
some (v9, M6, 0, 0))
else if a2 = 2 then
  ((gi M6 v5 [2, 3] 3).bind fun v10 =>
some (v10, M6, 0, 0))
else if a2 = 3 then
  ((gi M6 v5 [2, 3] 4).bind fun v11 =>
some (v11, M6, 0, 0))
else if a2 = 4 then
  ((gi M6 v5 [2, 3] 5).bind fun v12 =>
some (v12, M6, 0, 0))
else if a2 = 5 then
  ((gi M6 v5 [2, 3] 6).bind fun v13 =>
some (v13, M6, 0, 0))
else if a2 = 6 then
  (if ckc M6 v5 [2, 3] = true then
  (cb (fX2_isText v5 M6 z7) z7 fun v14 M15 z16 =>
if v14 = 0 then
  (some ((-9 : Int32), M15, 0, 0))
else
  ((gi M15 v5 [2, 3] 7).bind fun v17 =>
some (v17, M15, 0, 0)))
else none)
else 
  (some ((-2 : Int32), M6, 0, 0)))
else none)
else none))
else none
theorem gX0_ofBlock {G : Cx} {F : Option Value × Mp × Nat} (hF : FX G cX0_ofBlock 4 RX0 (Option.some Jvm.ClassFile.FieldType.int) "ofBlock" 3 64) (a0 : Option Nat) (a1 : Int32) (a2 : Int32) (M : Mp) (z : Nat) : SK G F 4 eI 0 [some (va_rf a0), some (.int a1), some (.int a2), none] [] M z (fX0_ofBlock a0 a1 a2 M z) := by
  unfold fX0_ofBlock
  refine s_aload_n (pc := 0) hF dX0_ofBlock_0 rfl rfl ?_
  refine s_iload_n (pc := 1) hF dX0_ofBlock_1 rfl rfl ?_
  refine s_callV (pc := 2) (As := [.int a1]) (st := []) (stf := fun r9 => .int r9 :: []) hF (mX0_isBlock a0 a1) cw_X0_isBlock q518 q520 (List.forall_mem_cons.mpr ⟨⟨(RX0, TX0, 6), rfl, qs5⟩, fun _ h9 => absurd h9 List.not_mem_nil⟩) rfl ⟨Nat.le_of_ble_eq_true rfl, Nat.le_of_ble_eq_true rfl⟩ ⟨trivial, Nat.le_of_ble_eq_true rfl⟩ dX0_ofBlock_2 rfl (fun _ => rfl) (fun v1 M2 z3 => ?_)
  refine s_if_ne (pc := 5) hF 10 dX0_ofBlock_5 rfl ?_ ?_
  · refine s_aload_n (pc := 10) hF dX0_ofBlock_10 rfl rfl ?_
    refine s_getr (pc := 11) hF (fl_X0_14 hF) dX0_ofBlock_11 (fun v4 => ?_)
    refine s_iload_n (pc := 14) hF dX0_ofBlock_14 rfl rfl ?_
    refine s_callF (pc := 15) (As := [.int a1]) (st := []) (stf := fun r9 => va_rf r9 :: []) (x := ⟨"java/util/List", "get", "(I)Ljava/lang/Object;"⟩) hF (mJ2_get v4 a1) cw_J2_get rfl ⟨by decide, by decide⟩ q523 q356 n_q353 n_q352 n_q357 (List.forall_mem_cons.mpr ⟨⟨(RJ2, TJ2, 3), rfl, q354, n_q355, n_q155⟩, fun _ h9 => absurd h9 List.not_mem_nil⟩) rfl ⟨Nat.le_of_ble_eq_true rfl, Nat.le_of_ble_eq_true rfl⟩ ⟨trivial, Nat.le_of_ble_eq_true rfl⟩ dX0_ofBlock_15 rfl (fun _ => rfl) (fun v5 M6 z7 => ?_)
    refine s_cast (pc := 20) hF q252 (List.forall_mem_cons.mpr ⟨⟨(RX2, TX2, 13), rfl, Or.inl rfl⟩, List.forall_mem_cons.mpr ⟨⟨(RX3, TX3, 14), rfl, Or.inr n_q1359⟩, fun _ h9 => absurd h9 List.not_mem_nil⟩⟩) dX0_ofBlock_20 ?_
    refine s_astore_n (L9 := [some (va_rf a0), some (.int a1), some (.int a2), some (va_rf v5)]) (pc := 23) hF dX0_ofBlock_23 rfl (Nat.le_of_ble_eq_true rfl) rfl ?_
    refine s_iload_n (pc := 24) hF dX0_ofBlock_24 rfl rfl ?_
    refine s_case (v := 0) (pc := 25) hF 68 dX0_ofBlock_25 (by decide) rfl rfl ?_ (fun h9_0 => ?_)
    · refine s_aload_n (pc := 68) hF dX0_ofBlock_68 rfl rfl ?_
      refine s_geti (pc := 69) hF (fl_X0_131 hF) dX0_ofBlock_69 (fun v8 => ?_)
      exact s_iret (pc := 72) hF dX0_ofBlock_72
    refine s_case (v := 1) (pc := 25) hF 73 dX0_ofBlock_25 (by decide) rfl rfl ?_ (fun h9_1 => ?_)
    · refine s_aload_n (pc := 73) hF dX0_ofBlock_73 rfl rfl ?_
      refine s_geti (pc := 74) hF (fl_X0_134 hF) dX0_ofBlock_74 (fun v9 => ?_)
      exact s_iret (pc := 77) hF dX0_ofBlock_77
    refine s_case (v := 2) (pc := 25) hF 78 dX0_ofBlock_25 (by decide) rfl rfl ?_ (fun h9_2 => ?_)
    · refine s_aload_n (pc := 78) hF dX0_ofBlock_78 rfl rfl ?_
      refine s_geti (pc := 79) hF (fl_X0_119 hF) dX0_ofBlock_79 (fun v10 => ?_)
      exact s_iret (pc := 82) hF dX0_ofBlock_82
    refine s_case (v := 3) (pc := 25) hF 83 dX0_ofBlock_25 (by decide) rfl rfl ?_ (fun h9_3 => ?_)
    · refine s_aload_n (pc := 83) hF dX0_ofBlock_83 rfl rfl ?_
      refine s_geti (pc := 84) hF (fl_X0_122 hF) dX0_ofBlock_84 (fun v11 => ?_)
      exact s_iret (pc := 87) hF dX0_ofBlock_87
    refine s_case (v := 4) (pc := 25) hF 88 dX0_ofBlock_25 (by decide) rfl rfl ?_ (fun h9_4 => ?_)
    · refine s_aload_n (pc := 88) hF dX0_ofBlock_88 rfl rfl ?_
      refine s_geti (pc := 89) hF (fl_X0_137 hF) dX0_ofBlock_89 (fun v12 => ?_)
      exact s_iret (pc := 92) hF dX0_ofBlock_92
    refine s_case (v := 5) (pc := 25) hF 93 dX0_ofBlock_25 (by decide) rfl rfl ?_ (fun h9_5 => ?_)
    · refine s_aload_n (pc := 93) hF dX0_ofBlock_93 rfl rfl ?_
      refine s_geti (pc := 94) hF (fl_X0_140 hF) dX0_ofBlock_94 (fun v13 => ?_)
      exact s_iret (pc := 97) hF dX0_ofBlock_97
    refine s_case (v := 6) (pc := 25) hF 98 dX0_ofBlock_25 (by decide) rfl rfl ?_ (fun h9_6 => ?_)
    · refine s_aload_n (pc := 98) hF dX0_ofBlock_98 rfl rfl ?_
      refine s_callV (pc := 99) (As := []) (st := []) (stf := fun r9 => .int r9 :: []) hF (mX2_isText v5) cw_X2_isText q524 q525 (List.forall_mem_cons.mpr ⟨⟨(RX2, TX2, 13), rfl, q526⟩, List.forall_mem_cons.mpr ⟨⟨(RX3, TX3, 14), rfl, q528⟩, fun _ h9 => absurd h9 List.not_mem_nil⟩⟩) rfl ⟨Nat.le_of_ble_eq_true rfl, Nat.le_of_ble_eq_true rfl⟩ ⟨trivial, Nat.le_of_ble_eq_true rfl⟩ dX0_ofBlock_99 rfl (fun _ => rfl) (fun v14 M15 z16 => ?_)
      refine s_if_eq (pc := 102) hF 112 dX0_ofBlock_102 rfl ?_ ?_
      · refine s_bipush (pc := 112) hF dX0_ofBlock_112 (-9 : Int32) (by decide) ?_
        exact s_iret (pc := 114) hF dX0_ofBlock_114
      · refine s_aload_n (pc := 105) hF dX0_ofBlock_105 rfl rfl ?_
        refine s_geti (pc := 106) hF (fl_X0_104 hF) dX0_ofBlock_106 (fun v17 => ?_)
        refine s_goto (pc := 109) hF 114 dX0_ofBlock_109 rfl ?_
        exact s_iret (pc := 114) hF dX0_ofBlock_114
    refine s_dflt (pc := 25) hF 115 dX0_ofBlock_25 (by
    have := lv_neT (a := 0) h9_0 rfl
    have := lv_neT (a := 1) h9_1 rfl
    have := lv_neT (a := 2) h9_2 rfl
    have := lv_neT (a := 3) h9_3 rfl
    have := lv_neT (a := 4) h9_4 rfl
    have := lv_neT (a := 5) h9_5 rfl
    have := lv_neT (a := 6) h9_6 rfl
    omega) rfl ?_
    refine s_bipush (pc := 115) hF dX0_ofBlock_115 (-2 : Int32) (by decide) ?_
    exact s_iret (pc := 117) hF dX0_ofBlock_117
  · refine s_iconst (pc := 8) hF dX0_ofBlock_8 (-1 : Int32) (by decide) ?_
    exact s_iret (pc := 9) hF dX0_ofBlock_9
theorem mX0_ofBlock (a0 : Option Nat) (a1 : Int32) (a2 : Int32) : MT yX0_ofBlock cX0_ofBlock 4 (Option.some Jvm.ClassFile.FieldType.int) 3 64 eI [va_rf a0, .int a1, .int a2] (fX0_ofBlock a0 a1 a2) :=
  MT.of (L0 := [some (va_rf a0), some (.int a1), some (.int a2), none]) (by decide) ⟨ct _, ⟨rfl, ⟨rfl, trivial⟩⟩⟩ (Nat.le_of_ble_eq_true rfl) rfl (fun _ _ hF M z => gX0_ofBlock hF a0 a1 a2 M z)

theorem fl_X0_143 {G : Cx} {nL fr lc : Nat} {cc : ByteArray} {ret : Option FieldType} {nm : String} (hF : FX G cc nL RX0 ret nm fr lc) : ∀ c ∈ [4], GF G RX0 143 c 0 := by
  obtain ⟨⟨p, l, e, R, s, m, args, below, meth, c0⟩, A, D, dA, mi⟩ := G
  obtain ⟨hx, hb, hml, hown, hts, hr, hlk, hK, hnm, hfr, hlc⟩ := hF
  exact List.forall_mem_cons.mpr ⟨⟨RX4, TX4, 5, "StoryColumns$Line", rfl, in_X4, Nat.le_of_ble_eq_true rfl, Or.inr ⟨_, (va_Nw.use rfl (hK.2.1 _ n_q542))⟩, fun _ h => h⟩, fun _ h9 => absurd h9 List.not_mem_nil⟩
def fX0_ofLine (a0 : Option Nat) (a1 : Int32) (a2 : Int32) (M : Mp) (z : Nat) : Rs Int32 := (gr M a0 [0] 1).bind fun v1 =>
if ckc M v1 [11] = true then
  (cb (fJ2_size v1 M z) z fun v2 M3 z4 =>
cb (fX0_in a1 (0 : Int32) (v2 - (1 : Int32)) M3 z4) z4 fun v5 M6 z7 =>
if v5 = 0 then
  (some ((-1 : Int32), M6, 0, 0))
else
  ((gr M6 a0 [0] 1).bind fun v8 =>
if ckc M6 v8 [11] = true then
  (cb (fJ2_get v8 a1 M6 z7) z7 fun v9 M10 z11 =>
if cst M10 v9 [4] = true then
  (if a2 = 0 then
  ((gi M10 v9 [4] 0).bind fun v12 =>
some (v12, M10, 0, 0))
else if a2 = 1 then
  ((gi M10 v9 [4] 1).bind fun v13 =>
some (v13, M10, 0, 0))
else if a2 = 2 then
  ((gi M10 v9 [4] 2).bind fun v14 =>
some (v14, M10, 0, 0))
else if a2 = 3 then
  ((gi M10 v9 [4] 3).bind fun v15 =>
some (v15, M10, 0, 0))
else if a2 = 4 then
  ((gi M10 v9 [4] 4).bind fun v16 =>
some (v16, M10, 0, 0))
else 
  (some ((-2 : Int32), M10, 0, 0)))
else none)
else none))
else none
theorem gX0_ofLine {G : Cx} {F : Option Value × Mp × Nat} (hF : FX G cX0_ofLine 4 RX0 (Option.some Jvm.ClassFile.FieldType.int) "ofLine" 3 64) (a0 : Option Nat) (a1 : Int32) (a2 : Int32) (M : Mp) (z : Nat) : SK G F 4 eI 0 [some (va_rf a0), some (.int a1), some (.int a2), none] [] M z (fX0_ofLine a0 a1 a2 M z) := by
  unfold fX0_ofLine
  refine s_iload_n (pc := 0) hF dX0_ofLine_0 rfl rfl ?_
  refine s_iconst (pc := 1) hF dX0_ofLine_1 (0 : Int32) (by decide) ?_
  refine s_aload_n (pc := 2) hF dX0_ofLine_2 rfl rfl ?_
  refine s_getr (pc := 3) hF (fl_X0_18 hF) dX0_ofLine_3 (fun v1 => ?_)
  refine s_callF (pc := 6) (As := []) (st := [.int (0 : Int32), .int a1]) (stf := fun r9 => .int r9 :: [.int (0 : Int32), .int a1]) (x := ⟨"java/util/List", "size", "()I"⟩) hF (mJ2_size v1) cw_J2_size rfl ⟨by decide, by decide⟩ q152 q158 n_q154 n_q153 n_q159 (List.forall_mem_cons.mpr ⟨⟨(RJ2, TJ2, 3), rfl, q156, n_q157, n_q155⟩, fun _ h9 => absurd h9 List.not_mem_nil⟩) rfl ⟨Nat.le_of_ble_eq_true rfl, Nat.le_of_ble_eq_true rfl⟩ ⟨⟨rfl, ⟨rfl, trivial⟩⟩, Nat.le_of_ble_eq_true rfl⟩ dX0_ofLine_6 rfl (fun _ => rfl) (fun v2 M3 z4 => ?_)
  refine s_iconst (pc := 11) hF dX0_ofLine_11 (1 : Int32) (by decide) ?_
  refine s_isub (pc := 12) hF dX0_ofLine_12 ?_
  refine s_callS (pc := 13) (As := [.int a1, .int (0 : Int32), .int (v2 - (1 : Int32))]) (st := []) (stf := fun r9 => .int r9 :: []) hF (mX0_in a1 (0 : Int32) (v2 - (1 : Int32))) cw_X0_in q145 q146 rfl ⟨Nat.le_of_ble_eq_true rfl, Nat.le_of_ble_eq_true rfl⟩ ⟨trivial, Nat.le_of_ble_eq_true rfl⟩ dX0_ofLine_13 rfl (fun _ => rfl) (fun v5 M6 z7 => ?_)
  refine s_if_ne (pc := 16) hF 21 dX0_ofLine_16 rfl ?_ ?_
  · refine s_aload_n (pc := 21) hF dX0_ofLine_21 rfl rfl ?_
    refine s_getr (pc := 22) hF (fl_X0_18 hF) dX0_ofLine_22 (fun v8 => ?_)
    refine s_iload_n (pc := 25) hF dX0_ofLine_25 rfl rfl ?_
    refine s_callF (pc := 26) (As := [.int a1]) (st := []) (stf := fun r9 => va_rf r9 :: []) (x := ⟨"java/util/List", "get", "(I)Ljava/lang/Object;"⟩) hF (mJ2_get v8 a1) cw_J2_get rfl ⟨by decide, by decide⟩ q523 q356 n_q353 n_q352 n_q357 (List.forall_mem_cons.mpr ⟨⟨(RJ2, TJ2, 3), rfl, q354, n_q355, n_q155⟩, fun _ h9 => absurd h9 List.not_mem_nil⟩) rfl ⟨Nat.le_of_ble_eq_true rfl, Nat.le_of_ble_eq_true rfl⟩ ⟨trivial, Nat.le_of_ble_eq_true rfl⟩ dX0_ofLine_26 rfl (fun _ => rfl) (fun v9 M10 z11 => ?_)
    refine s_cast (pc := 31) hF q534 (List.forall_mem_cons.mpr ⟨⟨(RX4, TX4, 5), rfl, Or.inl rfl⟩, fun _ h9 => absurd h9 List.not_mem_nil⟩) dX0_ofLine_31 ?_
    refine s_astore_n (L9 := [some (va_rf a0), some (.int a1), some (.int a2), some (va_rf v9)]) (pc := 34) hF dX0_ofLine_34 rfl (Nat.le_of_ble_eq_true rfl) rfl ?_
    refine s_iload_n (pc := 35) hF dX0_ofLine_35 rfl rfl ?_
    refine s_case (v := 0) (pc := 36) hF 72 dX0_ofLine_36 (by decide) rfl rfl ?_ (fun h9_0 => ?_)
    · refine s_aload_n (pc := 72) hF dX0_ofLine_72 rfl rfl ?_
      refine s_geti (pc := 73) hF (fl_X0_143 hF) dX0_ofLine_73 (fun v12 => ?_)
      exact s_iret (pc := 76) hF dX0_ofLine_76
    refine s_case (v := 1) (pc := 36) hF 77 dX0_ofLine_36 (by decide) rfl rfl ?_ (fun h9_1 => ?_)
    · refine s_aload_n (pc := 77) hF dX0_ofLine_77 rfl rfl ?_
      refine s_geti (pc := 78) hF (fl_X0_125 hF) dX0_ofLine_78 (fun v13 => ?_)
      exact s_iret (pc := 81) hF dX0_ofLine_81
    refine s_case (v := 2) (pc := 36) hF 82 dX0_ofLine_36 (by decide) rfl rfl ?_ (fun h9_2 => ?_)
    · refine s_aload_n (pc := 82) hF dX0_ofLine_82 rfl rfl ?_
      refine s_geti (pc := 83) hF (fl_X0_128 hF) dX0_ofLine_83 (fun v14 => ?_)
      exact s_iret (pc := 86) hF dX0_ofLine_86
    refine s_case (v := 3) (pc := 36) hF 87 dX0_ofLine_36 (by decide) rfl rfl ?_ (fun h9_3 => ?_)
    · refine s_aload_n (pc := 87) hF dX0_ofLine_87 rfl rfl ?_
      refine s_geti (pc := 88) hF (fl_X0_43 hF) dX0_ofLine_88 (fun v15 => ?_)
      exact s_iret (pc := 91) hF dX0_ofLine_91
    refine s_case (v := 4) (pc := 36) hF 92 dX0_ofLine_36 (by decide) rfl rfl ?_ (fun h9_4 => ?_)
    · refine s_aload_n (pc := 92) hF dX0_ofLine_92 rfl rfl ?_
      refine s_geti (pc := 93) hF (fl_X0_47 hF) dX0_ofLine_93 (fun v16 => ?_)
      exact s_iret (pc := 96) hF dX0_ofLine_96
    refine s_dflt (pc := 36) hF 97 dX0_ofLine_36 (by
    have := lv_neT (a := 0) h9_0 rfl
    have := lv_neT (a := 1) h9_1 rfl
    have := lv_neT (a := 2) h9_2 rfl
    have := lv_neT (a := 3) h9_3 rfl
    have := lv_neT (a := 4) h9_4 rfl
    omega) rfl ?_
    refine s_bipush (pc := 97) hF dX0_ofLine_97 (-2 : Int32) (by decide) ?_
    exact s_iret (pc := 99) hF dX0_ofLine_99
  · refine s_iconst (pc := 19) hF dX0_ofLine_19 (-1 : Int32) (by decide) ?_
    exact s_iret (pc := 20) hF dX0_ofLine_20
theorem mX0_ofLine (a0 : Option Nat) (a1 : Int32) (a2 : Int32) : MT yX0_ofLine cX0_ofLine 4 (Option.some Jvm.ClassFile.FieldType.int) 3 64 eI [va_rf a0, .int a1, .int a2] (fX0_ofLine a0 a1 a2) :=
  MT.of (L0 := [some (va_rf a0), some (.int a1), some (.int a2), none]) (by decide) ⟨ct _, ⟨rfl, ⟨rfl, trivial⟩⟩⟩ (Nat.le_of_ble_eq_true rfl) rfl (fun _ _ hF M z => gX0_ofLine hF a0 a1 a2 M z)

def fX11_hasColumn (a0 : Option Nat) (a1 : Int32) (M : Mp) (z : Nat) : Rs Int32 := if ckc M a0 [2, 3] = true then
  (cb (fX2_left a0 M z) z fun v1 M2 z3 =>
if ckc M2 a0 [2, 3] = true then
  (cb (fX2_right a0 M2 z3) z3 fun v4 M5 z6 =>
cb (fX0_in a1 v1 v4 M5 z6) z6 fun v7 M8 z9 =>
if v7 = 0 ∨ v7 = 1 then some (v7, M8, 0, 0) else none)
else none)
else none
theorem gX11_hasColumn {G : Cx} {F : Option Value × Mp × Nat} (hF : FX G cX11_hasColumn 2 RX11 (Option.some Jvm.ClassFile.FieldType.boolean) "hasColumn" 1 22) (a0 : Option Nat) (a1 : Int32) (M : Mp) (z : Nat) : SK G F 2 eI 0 [some (va_rf a0), some (.int a1)] [] M z (fX11_hasColumn a0 a1 M z) := by
  unfold fX11_hasColumn
  refine s_iload_n (pc := 0) hF dX11_hasColumn_0 rfl rfl ?_
  refine s_aload_n (pc := 1) hF dX11_hasColumn_1 rfl rfl ?_
  refine s_callF (pc := 2) (As := []) (st := [.int a1]) (stf := fun r9 => .int r9 :: [.int a1]) (x := ⟨"StoryColumns$Area", "left", "()I"⟩) hF (mX2_left a0) cw_X2_left rfl ⟨by decide, by decide⟩ q402 q407 n_q404 n_q403 n_q408 (List.forall_mem_cons.mpr ⟨⟨(RX2, TX2, 13), rfl, q405, n_q406, n_q392⟩, List.forall_mem_cons.mpr ⟨⟨(RX3, TX3, 14), rfl, q410, n_q411, n_q398⟩, fun _ h9 => absurd h9 List.not_mem_nil⟩⟩) rfl ⟨Nat.le_of_ble_eq_true rfl, Nat.le_of_ble_eq_true rfl⟩ ⟨⟨rfl, trivial⟩, Nat.le_of_ble_eq_true rfl⟩ dX11_hasColumn_2 rfl (fun _ => rfl) (fun v1 M2 z3 => ?_)
  refine s_aload_n (pc := 7) hF dX11_hasColumn_7 rfl rfl ?_
  refine s_callF (pc := 8) (As := []) (st := [.int v1, .int a1]) (stf := fun r9 => .int r9 :: [.int v1, .int a1]) (x := ⟨"StoryColumns$Area", "right", "()I"⟩) hF (mX2_right a0) cw_X2_right rfl ⟨by decide, by decide⟩ q413 q418 n_q415 n_q414 n_q419 (List.forall_mem_cons.mpr ⟨⟨(RX2, TX2, 13), rfl, q416, n_q417, n_q392⟩, List.forall_mem_cons.mpr ⟨⟨(RX3, TX3, 14), rfl, q421, n_q422, n_q398⟩, fun _ h9 => absurd h9 List.not_mem_nil⟩⟩) rfl ⟨Nat.le_of_ble_eq_true rfl, Nat.le_of_ble_eq_true rfl⟩ ⟨⟨rfl, ⟨rfl, trivial⟩⟩, Nat.le_of_ble_eq_true rfl⟩ dX11_hasColumn_8 rfl (fun _ => rfl) (fun v4 M5 z6 => ?_)
  refine s_callM (pc := 13) (As := [.int a1, .int v1, .int v4]) (st := []) (stf := fun r9 => .int r9 :: []) hF (mX0_in a1 v1 v4) cw_X0_in n_q632 q146 rfl ⟨Nat.le_of_ble_eq_true rfl, Nat.le_of_ble_eq_true rfl⟩ ⟨trivial, Nat.le_of_ble_eq_true rfl⟩ dX11_hasColumn_13 rfl (fun _ => rfl) (fun v7 M8 z9 => ?_)
  exact s_zret (pc := 16) hF dX11_hasColumn_16
theorem mX11_hasColumn (a0 : Option Nat) (a1 : Int32) : MTd yX11_hasColumn cX11_hasColumn 2 (Option.some Jvm.ClassFile.FieldType.boolean) 1 22 eI [va_rf a0, .int a1] (fX11_hasColumn a0 a1) :=
  MTd.of (L0 := [some (va_rf a0), some (.int a1)]) (by decide) ⟨ct _, ⟨rfl, trivial⟩⟩ (Nat.le_of_ble_eq_true rfl) rfl (fun _ _ hF M z => gX11_hasColumn hF a0 a1 M z)

def fX11_hasRow (a0 : Option Nat) (a1 : Int32) (M : Mp) (z : Nat) : Rs Int32 := if ckc M a0 [2, 3] = true then
  (cb (fX2_top a0 M z) z fun v1 M2 z3 =>
if ckc M2 a0 [2, 3] = true then
  (cb (fX2_bottom a0 M2 z3) z3 fun v4 M5 z6 =>
cb (fX0_in a1 v1 v4 M5 z6) z6 fun v7 M8 z9 =>
if v7 = 0 ∨ v7 = 1 then some (v7, M8, 0, 0) else none)
else none)
else none
theorem gX11_hasRow {G : Cx} {F : Option Value × Mp × Nat} (hF : FX G cX11_hasRow 2 RX11 (Option.some Jvm.ClassFile.FieldType.boolean) "hasRow" 1 22) (a0 : Option Nat) (a1 : Int32) (M : Mp) (z : Nat) : SK G F 2 eI 0 [some (va_rf a0), some (.int a1)] [] M z (fX11_hasRow a0 a1 M z) := by
  unfold fX11_hasRow
  refine s_iload_n (pc := 0) hF dX11_hasRow_0 rfl rfl ?_
  refine s_aload_n (pc := 1) hF dX11_hasRow_1 rfl rfl ?_
  refine s_callF (pc := 2) (As := []) (st := [.int a1]) (stf := fun r9 => .int r9 :: [.int a1]) (x := ⟨"StoryColumns$Area", "top", "()I"⟩) hF (mX2_top a0) cw_X2_top rfl ⟨by decide, by decide⟩ q424 q429 n_q426 n_q425 n_q430 (List.forall_mem_cons.mpr ⟨⟨(RX2, TX2, 13), rfl, q427, n_q428, n_q392⟩, List.forall_mem_cons.mpr ⟨⟨(RX3, TX3, 14), rfl, q432, n_q433, n_q398⟩, fun _ h9 => absurd h9 List.not_mem_nil⟩⟩) rfl ⟨Nat.le_of_ble_eq_true rfl, Nat.le_of_ble_eq_true rfl⟩ ⟨⟨rfl, trivial⟩, Nat.le_of_ble_eq_true rfl⟩ dX11_hasRow_2 rfl (fun _ => rfl) (fun v1 M2 z3 => ?_)
  refine s_aload_n (pc := 7) hF dX11_hasRow_7 rfl rfl ?_
  refine s_callF (pc := 8) (As := []) (st := [.int v1, .int a1]) (stf := fun r9 => .int r9 :: [.int v1, .int a1]) (x := ⟨"StoryColumns$Area", "bottom", "()I"⟩) hF (mX2_bottom a0) cw_X2_bottom rfl ⟨by decide, by decide⟩ q435 q440 n_q437 n_q436 n_q441 (List.forall_mem_cons.mpr ⟨⟨(RX2, TX2, 13), rfl, q438, n_q439, n_q392⟩, List.forall_mem_cons.mpr ⟨⟨(RX3, TX3, 14), rfl, q443, n_q444, n_q398⟩, fun _ h9 => absurd h9 List.not_mem_nil⟩⟩) rfl ⟨Nat.le_of_ble_eq_true rfl, Nat.le_of_ble_eq_true rfl⟩ ⟨⟨rfl, ⟨rfl, trivial⟩⟩, Nat.le_of_ble_eq_true rfl⟩ dX11_hasRow_8 rfl (fun _ => rfl) (fun v4 M5 z6 => ?_)
  refine s_callM (pc := 13) (As := [.int a1, .int v1, .int v4]) (st := []) (stf := fun r9 => .int r9 :: []) hF (mX0_in a1 v1 v4) cw_X0_in n_q632 q146 rfl ⟨Nat.le_of_ble_eq_true rfl, Nat.le_of_ble_eq_true rfl⟩ ⟨trivial, Nat.le_of_ble_eq_true rfl⟩ dX11_hasRow_13 rfl (fun _ => rfl) (fun v7 M8 z9 => ?_)
  exact s_zret (pc := 16) hF dX11_hasRow_16
theorem mX11_hasRow (a0 : Option Nat) (a1 : Int32) : MTd yX11_hasRow cX11_hasRow 2 (Option.some Jvm.ClassFile.FieldType.boolean) 1 22 eI [va_rf a0, .int a1] (fX11_hasRow a0 a1) :=
  MTd.of (L0 := [some (va_rf a0), some (.int a1)]) (by decide) ⟨ct _, ⟨rfl, trivial⟩⟩ (Nat.le_of_ble_eq_true rfl) rfl (fun _ _ hF M z => gX11_hasRow hF a0 a1 M z)

theorem fl_X0_150 {G : Cx} {nL fr lc : Nat} {cc : ByteArray} {ret : Option FieldType} {nm : String} (hF : FX G cc nL RX0 ret nm fr lc) : ∀ c ∈ [2, 3], GF G RX0 150 c 0 := by
  obtain ⟨⟨p, l, e, R, s, m, args, below, meth, c0⟩, A, D, dA, mi⟩ := G
  obtain ⟨hx, hb, hml, hown, hts, hr, hlk, hK, hnm, hfr, hlc⟩ := hF
  exact List.forall_mem_cons.mpr ⟨⟨RX2, TX2, 13, "StoryColumns$Block", rfl, in_X2, Nat.le_of_ble_eq_true rfl, Or.inl (hts _ q177), fun _ h => h⟩, List.forall_mem_cons.mpr ⟨⟨RX3, TX3, 14, "StoryColumns$Block", rfl, in_X3, Nat.le_of_ble_eq_true rfl, Or.inl (hts _ q177), fun _ h => h⟩, fun _ h9 => absurd h9 List.not_mem_nil⟩⟩
def fX0_at_L43 : Nat → Int32 → Int32 → Int32 → Option Nat → Mp → Nat → Rs Int32
  | 0, _, _, _, _, _, _ => none
  | fu + 1, l1, l2, l3, l4, M, z => if ckc M l4 [12] = true then
  (cb (fJ3_hasNext l4 M z) z fun v1 M2 z3 =>
if v1 = 0 then
  (some ((-9 : Int32), M2, 0, 0))
else
  (if ckc M2 l4 [12] = true then
  (cb (fJ3_next l4 M2 z3) z3 fun v4 M5 z6 =>
if cst M5 v4 [2, 3] = true then
  ((gi M5 v4 [2, 3] 1).bind fun v7 =>
if v7 = l1 then
  (if ckc M5 v4 [2, 3] = true then
  (cb (fX11_hasColumn v4 l2 M5 z6) z6 fun v8 M9 z10 =>
if v8 = 0 then
  (fX0_at_L43 fu l1 l2 l3 l4 M9 z10)
else
  (if ckc M9 v4 [2, 3] = true then
  (cb (fX11_hasRow v4 l3 M9 z10) z10 fun v11 M12 z13 =>
if v11 = 0 then
  (fX0_at_L43 fu l1 l2 l3 l4 M12 z13)
else
  ((gi M12 v4 [2, 3] 0).bind fun v14 =>
some (v14, M12, 0, 0)))
else none))
else none)
else
  (fX0_at_L43 fu l1 l2 l3 l4 M5 z6))
else none)
else none))
else none

theorem gX0_at_L43 {G : Cx} {F : Option Value × Mp × Nat} (hF : FX G cX0_at 6 RX0 (Option.some Jvm.ClassFile.FieldType.int) "at" 3 61) : ∀ (fu : Nat) (l1 : Int32) (l2 : Int32) (l3 : Int32) (l4 : Option Nat) (M : Mp) (z : Nat), SK G F 6 eI 43 [none, some (.int l1), some (.int l2), some (.int l3), some (va_rf l4), none] [] M z (fX0_at_L43 fu l1 l2 l3 l4 M z) := by
  intro fu
  induction fu with
  | zero => intros; exact SK.fail
  | succ fu ih =>
    intro l1 l2 l3 l4 M z
    rw [fX0_at_L43]
    refine s_aload (pc := 43) hF dX0_at_43 rfl ?_
    refine s_callF (pc := 45) (As := []) (st := []) (stf := fun r9 => .int r9 :: []) (x := ⟨"java/util/Iterator", "hasNext", "()Z"⟩) hF (mJ3_hasNext l4) cw_J3_hasNext rfl ⟨by decide, by decide⟩ q298 q325 n_q300 n_q299 n_q326 (List.forall_mem_cons.mpr ⟨⟨(RJ3, TJ3, 4), rfl, q323, n_q324, n_q322⟩, fun _ h9 => absurd h9 List.not_mem_nil⟩) rfl ⟨Nat.le_of_ble_eq_true rfl, Nat.le_of_ble_eq_true rfl⟩ ⟨trivial, Nat.le_of_ble_eq_true rfl⟩ dX0_at_45 rfl (fun _ => rfl) (fun v1 M2 z3 => ?_)
    refine s_if_eq (pc := 50) hF 101 dX0_at_50 rfl ?_ ?_
    · refine s_bipush (pc := 101) hF dX0_at_101 (-9 : Int32) (by decide) ?_
      exact s_iret (pc := 103) hF dX0_at_103
    · refine s_aload (pc := 53) hF dX0_at_53 rfl ?_
      refine s_callF (pc := 55) (As := []) (st := []) (stf := fun r9 => va_rf r9 :: []) (x := ⟨"java/util/Iterator", "next", "()Ljava/lang/Object;"⟩) hF (mJ3_next l4) cw_J3_next rfl ⟨by decide, by decide⟩ q381 q372 n_q331 n_q330 n_q373 (List.forall_mem_cons.mpr ⟨⟨(RJ3, TJ3, 4), rfl, q370, n_q371, n_q322⟩, fun _ h9 => absurd h9 List.not_mem_nil⟩) rfl ⟨Nat.le_of_ble_eq_true rfl, Nat.le_of_ble_eq_true rfl⟩ ⟨trivial, Nat.le_of_ble_eq_true rfl⟩ dX0_at_55 rfl (fun _ => rfl) (fun v4 M5 z6 => ?_)
      refine s_cast (pc := 60) hF q252 (List.forall_mem_cons.mpr ⟨⟨(RX2, TX2, 13), rfl, Or.inl rfl⟩, List.forall_mem_cons.mpr ⟨⟨(RX3, TX3, 14), rfl, Or.inr n_q1359⟩, fun _ h9 => absurd h9 List.not_mem_nil⟩⟩) dX0_at_60 ?_
      refine s_astore (L9 := [none, some (.int l1), some (.int l2), some (.int l3), some (va_rf l4), some (va_rf v4)]) (pc := 63) hF dX0_at_63 (Nat.le_of_ble_eq_true rfl) rfl ?_
      refine s_aload (pc := 65) hF dX0_at_65 rfl ?_
      refine s_geti (pc := 67) hF (fl_X0_131 hF) dX0_at_67 (fun v7 => ?_)
      refine s_iload_n (pc := 70) hF dX0_at_70 rfl rfl ?_
      refine s_icmp_ne (pc := 71) hF 98 dX0_at_71 rfl ?_ ?_
      · refine s_goto (pc := 98) hF 43 dX0_at_98 rfl ?_
        exact SK.sb (ih l1 l2 l3 l4 M5 z6) ⟨rfl, ⟨rfl, ⟨rfl, ⟨rfl, trivial⟩⟩⟩⟩
      · refine s_aload (pc := 74) hF dX0_at_74 rfl ?_
        refine s_iload_n (pc := 76) hF dX0_at_76 rfl rfl ?_
        refine s_callD (pc := 77) (As := [.int l2]) (st := []) (stf := fun r9 => .int r9 :: []) hF (mX11_hasColumn v4 l2) q631 q629 n_d2 n_d3 (fun _ _ _ _ h => h.2.2.2.2.2.2.2.1) (by show _ = some 1; decide +kernel) ⟨Nat.le_of_ble_eq_true rfl, Nat.le_of_ble_eq_true rfl⟩ ⟨trivial, Nat.le_of_ble_eq_true rfl⟩ dX0_at_77 rfl (fun _ => rfl) (fun v8 M9 z10 => ?_)
        refine s_if_eq (pc := 80) hF 98 dX0_at_80 rfl ?_ ?_
        · refine s_goto (pc := 98) hF 43 dX0_at_98 rfl ?_
          exact SK.sb (ih l1 l2 l3 l4 M9 z10) ⟨rfl, ⟨rfl, ⟨rfl, ⟨rfl, trivial⟩⟩⟩⟩
        · refine s_aload (pc := 83) hF dX0_at_83 rfl ?_
          refine s_iload_n (pc := 85) hF dX0_at_85 rfl rfl ?_
          refine s_callD (pc := 86) (As := [.int l3]) (st := []) (stf := fun r9 => .int r9 :: []) hF (mX11_hasRow v4 l3) q638 q636 n_d4 n_d5 (fun _ _ _ _ h => h.2.2.2.2.2.2.2.2) (by show _ = some 1; decide +kernel) ⟨Nat.le_of_ble_eq_true rfl, Nat.le_of_ble_eq_true rfl⟩ ⟨trivial, Nat.le_of_ble_eq_true rfl⟩ dX0_at_86 rfl (fun _ => rfl) (fun v11 M12 z13 => ?_)
          refine s_if_eq (pc := 89) hF 98 dX0_at_89 rfl ?_ ?_
          · refine s_goto (pc := 98) hF 43 dX0_at_98 rfl ?_
            exact SK.sb (ih l1 l2 l3 l4 M12 z13) ⟨rfl, ⟨rfl, ⟨rfl, ⟨rfl, trivial⟩⟩⟩⟩
          · refine s_aload (pc := 92) hF dX0_at_92 rfl ?_
            refine s_geti (pc := 94) hF (fl_X0_150 hF) dX0_at_94 (fun v14 => ?_)
            exact s_iret (pc := 97) hF dX0_at_97
def fX0_at (a0 : Option Nat) (a1 : Int32) (a2 : Int32) (a3 : Int32) (M : Mp) (z : Nat) : Rs Int32 := cb (fX0_in a1 (0 : Int32) (3 : Int32) M z) z fun v1 M2 z3 =>
if v1 = 0 then
  (some ((-2 : Int32), M2, 0, 0))
else
  (cb (fX0_in a2 (0 : Int32) (7 : Int32) M2 z3) z3 fun v4 M5 z6 =>
if v4 = 0 then
  (some ((-2 : Int32), M5, 0, 0))
else
  (cb (fX0_in a3 (0 : Int32) (29 : Int32) M5 z6) z6 fun v7 M8 z9 =>
if v7 = 0 then
  (some ((-2 : Int32), M8, 0, 0))
else
  ((gr M8 a0 [0] 0).bind fun v10 =>
if ckc M8 v10 [11] = true then
  (cb (fJ2_iterator v10 M8 z9) z9 fun v11 M12 z13 =>
fX0_at_L43 FU a1 a2 a3 v11 M12 z13)
else none)))
theorem gX0_at {G : Cx} {F : Option Value × Mp × Nat} (hF : FX G cX0_at 6 RX0 (Option.some Jvm.ClassFile.FieldType.int) "at" 3 61) (a0 : Option Nat) (a1 : Int32) (a2 : Int32) (a3 : Int32) (M : Mp) (z : Nat) : SK G F 6 eI 0 [some (va_rf a0), some (.int a1), some (.int a2), some (.int a3), none, none] [] M z (fX0_at a0 a1 a2 a3 M z) := by
  unfold fX0_at
  refine s_iload_n (pc := 0) hF dX0_at_0 rfl rfl ?_
  refine s_iconst (pc := 1) hF dX0_at_1 (0 : Int32) (by decide) ?_
  refine s_iconst (pc := 2) hF dX0_at_2 (3 : Int32) (by decide) ?_
  refine s_callS (pc := 3) (As := [.int a1, .int (0 : Int32), .int (3 : Int32)]) (st := []) (stf := fun r9 => .int r9 :: []) hF (mX0_in a1 (0 : Int32) (3 : Int32)) cw_X0_in q145 q146 rfl ⟨Nat.le_of_ble_eq_true rfl, Nat.le_of_ble_eq_true rfl⟩ ⟨trivial, Nat.le_of_ble_eq_true rfl⟩ dX0_at_3 rfl (fun _ => rfl) (fun v1 M2 z3 => ?_)
  refine s_if_eq (pc := 6) hF 29 dX0_at_6 rfl ?_ ?_
  · refine s_bipush (pc := 29) hF dX0_at_29 (-2 : Int32) (by decide) ?_
    exact s_iret (pc := 31) hF dX0_at_31
  · refine s_iload_n (pc := 9) hF dX0_at_9 rfl rfl ?_
    refine s_iconst (pc := 10) hF dX0_at_10 (0 : Int32) (by decide) ?_
    refine s_bipush (pc := 11) hF dX0_at_11 (7 : Int32) (by decide) ?_
    refine s_callS (pc := 13) (As := [.int a2, .int (0 : Int32), .int (7 : Int32)]) (st := []) (stf := fun r9 => .int r9 :: []) hF (mX0_in a2 (0 : Int32) (7 : Int32)) cw_X0_in q145 q146 rfl ⟨Nat.le_of_ble_eq_true rfl, Nat.le_of_ble_eq_true rfl⟩ ⟨trivial, Nat.le_of_ble_eq_true rfl⟩ dX0_at_13 rfl (fun _ => rfl) (fun v4 M5 z6 => ?_)
    refine s_if_eq (pc := 16) hF 29 dX0_at_16 rfl ?_ ?_
    · refine s_bipush (pc := 29) hF dX0_at_29 (-2 : Int32) (by decide) ?_
      exact s_iret (pc := 31) hF dX0_at_31
    · refine s_iload_n (pc := 19) hF dX0_at_19 rfl rfl ?_
      refine s_iconst (pc := 20) hF dX0_at_20 (0 : Int32) (by decide) ?_
      refine s_bipush (pc := 21) hF dX0_at_21 (29 : Int32) (by decide) ?_
      refine s_callS (pc := 23) (As := [.int a3, .int (0 : Int32), .int (29 : Int32)]) (st := []) (stf := fun r9 => .int r9 :: []) hF (mX0_in a3 (0 : Int32) (29 : Int32)) cw_X0_in q145 q146 rfl ⟨Nat.le_of_ble_eq_true rfl, Nat.le_of_ble_eq_true rfl⟩ ⟨trivial, Nat.le_of_ble_eq_true rfl⟩ dX0_at_23 rfl (fun _ => rfl) (fun v7 M8 z9 => ?_)
      refine s_if_ne (pc := 26) hF 32 dX0_at_26 rfl ?_ ?_
      · refine s_aload_n (pc := 32) hF dX0_at_32 rfl rfl ?_
        refine s_getr (pc := 33) hF (fl_X0_14 hF) dX0_at_33 (fun v10 => ?_)
        refine s_callF (pc := 36) (As := []) (st := []) (stf := fun r9 => va_rf r9 :: []) (x := ⟨"java/util/List", "iterator", "()Ljava/util/Iterator;"⟩) hF (mJ2_iterator v10) cw_J2_iterator rfl ⟨by decide, by decide⟩ q270 q275 n_q272 n_q271 n_q276 (List.forall_mem_cons.mpr ⟨⟨(RJ2, TJ2, 3), rfl, q273, n_q274, n_q155⟩, fun _ h9 => absurd h9 List.not_mem_nil⟩) rfl ⟨Nat.le_of_ble_eq_true rfl, Nat.le_of_ble_eq_true rfl⟩ ⟨trivial, Nat.le_of_ble_eq_true rfl⟩ dX0_at_36 rfl (fun _ => rfl) (fun v11 M12 z13 => ?_)
        refine s_astore (L9 := [some (va_rf a0), some (.int a1), some (.int a2), some (.int a3), some (va_rf v11), none]) (pc := 41) hF dX0_at_41 (Nat.le_of_ble_eq_true rfl) rfl ?_
        exact SK.sb (gX0_at_L43 hF FU a1 a2 a3 v11 M12 z13) ⟨rfl, ⟨rfl, ⟨rfl, ⟨rfl, trivial⟩⟩⟩⟩
      · refine s_bipush (pc := 29) hF dX0_at_29 (-2 : Int32) (by decide) ?_
        exact s_iret (pc := 31) hF dX0_at_31
theorem mX0_at (a0 : Option Nat) (a1 : Int32) (a2 : Int32) (a3 : Int32) : MT yX0_at cX0_at 6 (Option.some Jvm.ClassFile.FieldType.int) 3 61 eI [va_rf a0, .int a1, .int a2, .int a3] (fX0_at a0 a1 a2 a3) :=
  MT.of (L0 := [some (va_rf a0), some (.int a1), some (.int a2), some (.int a3), none, none]) (by decide) ⟨ct _, ⟨rfl, ⟨rfl, ⟨rfl, trivial⟩⟩⟩⟩ (Nat.le_of_ble_eq_true rfl) rfl (fun _ _ hF M z => gX0_at hF a0 a1 a2 a3 M z)

theorem fl_X4_15 {G : Cx} {nL fr lc : Nat} {cc : ByteArray} {ret : Option FieldType} {nm : String} (hF : FX G cc nL RX4 ret nm fr lc) : ∀ c ∈ [4], GF G RX4 15 c 1 := by
  obtain ⟨⟨p, l, e, R, s, m, args, below, meth, c0⟩, A, D, dA, mi⟩ := G
  obtain ⟨hx, hb, hml, hown, hts, hr, hlk, hK, hnm, hfr, hlc⟩ := hF
  exact List.forall_mem_cons.mpr ⟨⟨RX4, TX4, 5, "StoryColumns$Line", rfl, in_X4, Nat.le_of_ble_eq_true rfl, Or.inl (hts _ q543), fun _ h => h⟩, fun _ h9 => absurd h9 List.not_mem_nil⟩
theorem fl_X4_9 {G : Cx} {nL fr lc : Nat} {cc : ByteArray} {ret : Option FieldType} {nm : String} (hF : FX G cc nL RX4 ret nm fr lc) : ∀ c ∈ [4], GF G RX4 9 c 0 := by
  obtain ⟨⟨p, l, e, R, s, m, args, below, meth, c0⟩, A, D, dA, mi⟩ := G
  obtain ⟨hx, hb, hml, hown, hts, hr, hlk, hK, hnm, hfr, hlc⟩ := hF
  exact List.forall_mem_cons.mpr ⟨⟨RX4, TX4, 5, "StoryColumns$Line", rfl, in_X4, Nat.le_of_ble_eq_true rfl, Or.inl (hts _ q540), fun _ h => h⟩, fun _ h9 => absurd h9 List.not_mem_nil⟩
theorem fl_X4_18 {G : Cx} {nL fr lc : Nat} {cc : ByteArray} {ret : Option FieldType} {nm : String} (hF : FX G cc nL RX4 ret nm fr lc) : ∀ c ∈ [4], GF G RX4 18 c 2 := by
  obtain ⟨⟨p, l, e, R, s, m, args, below, meth, c0⟩, A, D, dA, mi⟩ := G
  obtain ⟨hx, hb, hml, hown, hts, hr, hlk, hK, hnm, hfr, hlc⟩ := hF
  exact List.forall_mem_cons.mpr ⟨⟨RX4, TX4, 5, "StoryColumns$Line", rfl, in_X4, Nat.le_of_ble_eq_true rfl, Or.inl (hts _ q546), fun _ h => h⟩, fun _ h9 => absurd h9 List.not_mem_nil⟩
def fX4_isUpright (a0 : Option Nat) (a1 : Int32) (a2 : Int32) (M : Mp) (z : Nat) : Rs Int32 := (gi M a0 [4] 1).bind fun v1 =>
if v1 = 0 then
  ((gi M a0 [4] 0).bind fun v2 =>
if v2 = a1 then
  ((gi M a0 [4] 2).bind fun v3 =>
if v3 = a2 then
  (some ((1 : Int32), M, 0, 0))
else
  (some ((0 : Int32), M, 0, 0)))
else
  (some ((0 : Int32), M, 0, 0)))
else
  (some ((0 : Int32), M, 0, 0))
theorem gX4_isUpright {G : Cx} {F : Option Value × Mp × Nat} (hF : FX G cX4_isUpright 3 RX4 (Option.some Jvm.ClassFile.FieldType.boolean) "isUpright" 0 0) (a0 : Option Nat) (a1 : Int32) (a2 : Int32) (M : Mp) (z : Nat) : SK G F 3 eI 0 [some (va_rf a0), some (.int a1), some (.int a2)] [] M z (fX4_isUpright a0 a1 a2 M z) := by
  unfold fX4_isUpright
  refine s_aload_n (pc := 0) hF dX4_isUpright_0 rfl rfl ?_
  refine s_geti (pc := 1) hF (fl_X4_15 hF) dX4_isUpright_1 (fun v1 => ?_)
  refine s_if_ne (pc := 4) hF 27 dX4_isUpright_4 rfl ?_ ?_
  · refine s_iconst (pc := 27) hF dX4_isUpright_27 (0 : Int32) (by decide) ?_
    exact s_zretL (pc := 28) hF dX4_isUpright_28 (by decide)
  · refine s_aload_n (pc := 7) hF dX4_isUpright_7 rfl rfl ?_
    refine s_geti (pc := 8) hF (fl_X4_9 hF) dX4_isUpright_8 (fun v2 => ?_)
    refine s_iload_n (pc := 11) hF dX4_isUpright_11 rfl rfl ?_
    refine s_icmp_ne (pc := 12) hF 27 dX4_isUpright_12 rfl ?_ ?_
    · refine s_iconst (pc := 27) hF dX4_isUpright_27 (0 : Int32) (by decide) ?_
      exact s_zretL (pc := 28) hF dX4_isUpright_28 (by decide)
    · refine s_aload_n (pc := 15) hF dX4_isUpright_15 rfl rfl ?_
      refine s_geti (pc := 16) hF (fl_X4_18 hF) dX4_isUpright_16 (fun v3 => ?_)
      refine s_iload_n (pc := 19) hF dX4_isUpright_19 rfl rfl ?_
      refine s_icmp_ne (pc := 20) hF 27 dX4_isUpright_20 rfl ?_ ?_
      · refine s_iconst (pc := 27) hF dX4_isUpright_27 (0 : Int32) (by decide) ?_
        exact s_zretL (pc := 28) hF dX4_isUpright_28 (by decide)
      · refine s_iconst (pc := 23) hF dX4_isUpright_23 (1 : Int32) (by decide) ?_
        refine s_goto (pc := 24) hF 28 dX4_isUpright_24 rfl ?_
        exact s_zretL (pc := 28) hF dX4_isUpright_28 (by decide)
theorem mX4_isUpright (a0 : Option Nat) (a1 : Int32) (a2 : Int32) : MT yX4_isUpright cX4_isUpright 3 (Option.some Jvm.ClassFile.FieldType.boolean) 0 0 eI [va_rf a0, .int a1, .int a2] (fX4_isUpright a0 a1 a2) :=
  MT.of (L0 := [some (va_rf a0), some (.int a1), some (.int a2)]) (by decide) ⟨ct _, ⟨rfl, ⟨rfl, trivial⟩⟩⟩ (Nat.le_of_ble_eq_true rfl) rfl (fun _ _ hF M z => gX4_isUpright hF a0 a1 a2 M z)

theorem cw_X4_isUpright : CWm yX4_isUpright cX4_isUpright 3 (Option.some Jvm.ClassFile.FieldType.boolean) 2 := ⟨q658, q73, by decide +kernel, by decide +kernel, by decide +kernel⟩
def fX0_isBarred_J72 (r6 : Option Nat → Int32 → Int32 → Int32 → Int32 → Int32 → Int32 → Mp → Nat → Rs Int32) (l0 : Option Nat) (l1 : Int32) (l2 : Int32) (l3 : Int32) (l4 : Int32) (l6 : Int32) (s0 : Int32) (s1 : Int32) (M : Mp) (z : Nat) : Rs Int32 := r6 l0 l1 l2 l3 l4 (s0 ||| s1) (l6 + 1) M z

theorem gX0_isBarred_J72 {G : Cx} {F : Option Value × Mp × Nat}  {r6 : Option Nat → Int32 → Int32 → Int32 → Int32 → Int32 → Int32 → Mp → Nat → Rs Int32}(hF : FX G cX0_isBarred 8 RX0 (Option.some Jvm.ClassFile.FieldType.boolean) "isBarred" 3 64) (hr6 : ∀ l0 l1 l2 l3 l4 l5 l6 M z, SK G F 8 eI 6 [some (va_rf l0), some (.int l1), some (.int l2), some (.int l3), some (.int l4), some (.int l5), some (.int l6), none] [] M z (r6 l0 l1 l2 l3 l4 l5 l6 M z)) (l0 : Option Nat) (l1 : Int32) (l2 : Int32) (l3 : Int32) (l4 : Int32) (l6 : Int32) (s0 : Int32) (s1 : Int32) (M : Mp) (z : Nat) : SK G F 8 eI 72 [some (va_rf l0), some (.int l1), some (.int l2), some (.int l3), some (.int l4), none, some (.int l6), none] [.int s1, .int s0] M z (fX0_isBarred_J72 r6 l0 l1 l2 l3 l4 l6 s0 s1 M z) := by
  unfold fX0_isBarred_J72
  refine s_ior (pc := 72) hF dX0_isBarred_72 ?_
  refine s_istore (L9 := [some (va_rf l0), some (.int l1), some (.int l2), some (.int l3), some (.int l4), some (.int (s0 ||| s1)), some (.int l6), none]) (pc := 73) hF dX0_isBarred_73 (Nat.le_of_ble_eq_true rfl) rfl ?_
  refine s_iinc (v := l6 + 1) (L9 := [some (va_rf l0), some (.int l1), some (.int l2), some (.int l3), some (.int l4), some (.int (s0 ||| s1)), some (.int (l6 + 1)), none]) (pc := 75) hF dX0_isBarred_75 rfl rfl (Nat.le_of_ble_eq_true rfl) rfl ?_
  refine s_goto (pc := 78) hF 6 dX0_isBarred_78 rfl ?_
  exact SK.sb (hr6 l0 l1 l2 l3 l4 (s0 ||| s1) (l6 + 1) M z) ⟨rfl, ⟨rfl, ⟨rfl, ⟨rfl, ⟨rfl, ⟨rfl, ⟨rfl, trivial⟩⟩⟩⟩⟩⟩⟩

def fX0_isBarred_L6 : Nat → Option Nat → Int32 → Int32 → Int32 → Int32 → Int32 → Int32 → Mp → Nat → Rs Int32
  | 0, _, _, _, _, _, _, _, _, _ => none
  | fu + 1, l0, l1, l2, l3, l4, l5, l6, M, z => (gr M l0 [0] 1).bind fun v1 =>
if ckc M v1 [11] = true then
  (cb (fJ2_size v1 M z) z fun v2 M3 z4 =>
if l6 < v2 then
  ((gr M3 l0 [0] 1).bind fun v5 =>
if ckc M3 v5 [11] = true then
  (cb (fJ2_get v5 l6 M3 z4) z4 fun v6 M7 z8 =>
if cst M7 v6 [4] = true then
  (if ckc M7 v6 [4] = true then
  (cb (fX4_isUpright v6 l1 l2 M7 z8) z8 fun v9 M10 z11 =>
if v9 = 0 then
  (fX0_isBarred_J72 (fX0_isBarred_L6 fu) l0 l1 l2 l3 l4 l6 l5 (0 : Int32) M10 z11)
else
  ((gi M10 v6 [4] 3).bind fun v12 =>
if l4 < v12 then
  (fX0_isBarred_J72 (fX0_isBarred_L6 fu) l0 l1 l2 l3 l4 l6 l5 (0 : Int32) M10 z11)
else
  ((gi M10 v6 [4] 4).bind fun v13 =>
if v13 < l3 then
  (fX0_isBarred_J72 (fX0_isBarred_L6 fu) l0 l1 l2 l3 l4 l6 l5 (0 : Int32) M10 z11)
else
  (fX0_isBarred_J72 (fX0_isBarred_L6 fu) l0 l1 l2 l3 l4 l6 l5 (1 : Int32) M10 z11))))
else none)
else none)
else none)
else
  (if l5 = 0 ∨ l5 = 1 then some (l5, M3, 0, 0) else none))
else none

theorem gX0_isBarred_L6 {G : Cx} {F : Option Value × Mp × Nat} (hF : FX G cX0_isBarred 8 RX0 (Option.some Jvm.ClassFile.FieldType.boolean) "isBarred" 3 64) : ∀ (fu : Nat) (l0 : Option Nat) (l1 : Int32) (l2 : Int32) (l3 : Int32) (l4 : Int32) (l5 : Int32) (l6 : Int32) (M : Mp) (z : Nat), SK G F 8 eI 6 [some (va_rf l0), some (.int l1), some (.int l2), some (.int l3), some (.int l4), some (.int l5), some (.int l6), none] [] M z (fX0_isBarred_L6 fu l0 l1 l2 l3 l4 l5 l6 M z) := by
  intro fu
  induction fu with
  | zero => intros; exact SK.fail
  | succ fu ih =>
    intro l0 l1 l2 l3 l4 l5 l6 M z
    rw [fX0_isBarred_L6]
    refine s_iload (pc := 6) hF dX0_isBarred_6 rfl ?_
    refine s_aload_n (pc := 8) hF dX0_isBarred_8 rfl rfl ?_
    refine s_getr (pc := 9) hF (fl_X0_18 hF) dX0_isBarred_9 (fun v1 => ?_)
    refine s_callF (pc := 12) (As := []) (st := [.int l6]) (stf := fun r9 => .int r9 :: [.int l6]) (x := ⟨"java/util/List", "size", "()I"⟩) hF (mJ2_size v1) cw_J2_size rfl ⟨by decide, by decide⟩ q152 q158 n_q154 n_q153 n_q159 (List.forall_mem_cons.mpr ⟨⟨(RJ2, TJ2, 3), rfl, q156, n_q157, n_q155⟩, fun _ h9 => absurd h9 List.not_mem_nil⟩) rfl ⟨Nat.le_of_ble_eq_true rfl, Nat.le_of_ble_eq_true rfl⟩ ⟨⟨rfl, trivial⟩, Nat.le_of_ble_eq_true rfl⟩ dX0_isBarred_12 rfl (fun _ => rfl) (fun v2 M3 z4 => ?_)
    refine s_icmp_ge (pc := 17) hF 81 dX0_isBarred_17 rfl ?_ ?_
    · refine s_iload (pc := 81) hF dX0_isBarred_81 rfl ?_
      exact s_zret (pc := 83) hF dX0_isBarred_83
    · refine s_aload_n (pc := 20) hF dX0_isBarred_20 rfl rfl ?_
      refine s_getr (pc := 21) hF (fl_X0_18 hF) dX0_isBarred_21 (fun v5 => ?_)
      refine s_iload (pc := 24) hF dX0_isBarred_24 rfl ?_
      refine s_callF (pc := 26) (As := [.int l6]) (st := []) (stf := fun r9 => va_rf r9 :: []) (x := ⟨"java/util/List", "get", "(I)Ljava/lang/Object;"⟩) hF (mJ2_get v5 l6) cw_J2_get rfl ⟨by decide, by decide⟩ q523 q356 n_q353 n_q352 n_q357 (List.forall_mem_cons.mpr ⟨⟨(RJ2, TJ2, 3), rfl, q354, n_q355, n_q155⟩, fun _ h9 => absurd h9 List.not_mem_nil⟩) rfl ⟨Nat.le_of_ble_eq_true rfl, Nat.le_of_ble_eq_true rfl⟩ ⟨trivial, Nat.le_of_ble_eq_true rfl⟩ dX0_isBarred_26 rfl (fun _ => rfl) (fun v6 M7 z8 => ?_)
      refine s_cast (pc := 31) hF q534 (List.forall_mem_cons.mpr ⟨⟨(RX4, TX4, 5), rfl, Or.inl rfl⟩, fun _ h9 => absurd h9 List.not_mem_nil⟩) dX0_isBarred_31 ?_
      refine s_astore (L9 := [some (va_rf l0), some (.int l1), some (.int l2), some (.int l3), some (.int l4), some (.int l5), some (.int l6), some (va_rf v6)]) (pc := 34) hF dX0_isBarred_34 (Nat.le_of_ble_eq_true rfl) rfl ?_
      refine s_iload (pc := 36) hF dX0_isBarred_36 rfl ?_
      refine s_aload (pc := 38) hF dX0_isBarred_38 rfl ?_
      refine s_iload_n (pc := 40) hF dX0_isBarred_40 rfl rfl ?_
      refine s_iload_n (pc := 41) hF dX0_isBarred_41 rfl rfl ?_
      refine s_callV (pc := 42) (As := [.int l1, .int l2]) (st := [.int l5]) (stf := fun r9 => .int r9 :: [.int l5]) hF (mX4_isUpright v6 l1 l2) cw_X4_isUpright q655 q656 (List.forall_mem_cons.mpr ⟨⟨(RX4, TX4, 5), rfl, q657⟩, fun _ h9 => absurd h9 List.not_mem_nil⟩) rfl ⟨Nat.le_of_ble_eq_true rfl, Nat.le_of_ble_eq_true rfl⟩ ⟨⟨rfl, trivial⟩, Nat.le_of_ble_eq_true rfl⟩ dX0_isBarred_42 rfl (fun _ => rfl) (fun v9 M10 z11 => ?_)
      refine s_if_eq (pc := 45) hF 71 dX0_isBarred_45 rfl ?_ ?_
      · refine s_iconst (pc := 71) hF dX0_isBarred_71 (0 : Int32) (by decide) ?_
        exact SK.sb (gX0_isBarred_J72 hF ih l0 l1 l2 l3 l4 l6 l5 (0 : Int32) M10 z11) ⟨rfl, ⟨rfl, ⟨rfl, ⟨rfl, ⟨rfl, ⟨rfl, trivial⟩⟩⟩⟩⟩⟩
      · refine s_aload (pc := 48) hF dX0_isBarred_48 rfl ?_
        refine s_geti (pc := 50) hF (fl_X0_43 hF) dX0_isBarred_50 (fun v12 => ?_)
        refine s_iload (pc := 53) hF dX0_isBarred_53 rfl ?_
        refine s_icmp_gt (pc := 55) hF 71 dX0_isBarred_55 rfl ?_ ?_
        · refine s_iconst (pc := 71) hF dX0_isBarred_71 (0 : Int32) (by decide) ?_
          exact SK.sb (gX0_isBarred_J72 hF ih l0 l1 l2 l3 l4 l6 l5 (0 : Int32) M10 z11) ⟨rfl, ⟨rfl, ⟨rfl, ⟨rfl, ⟨rfl, ⟨rfl, trivial⟩⟩⟩⟩⟩⟩
        · refine s_iload_n (pc := 58) hF dX0_isBarred_58 rfl rfl ?_
          refine s_aload (pc := 59) hF dX0_isBarred_59 rfl ?_
          refine s_geti (pc := 61) hF (fl_X0_47 hF) dX0_isBarred_61 (fun v13 => ?_)
          refine s_icmp_gt (pc := 64) hF 71 dX0_isBarred_64 rfl ?_ ?_
          · refine s_iconst (pc := 71) hF dX0_isBarred_71 (0 : Int32) (by decide) ?_
            exact SK.sb (gX0_isBarred_J72 hF ih l0 l1 l2 l3 l4 l6 l5 (0 : Int32) M10 z11) ⟨rfl, ⟨rfl, ⟨rfl, ⟨rfl, ⟨rfl, ⟨rfl, trivial⟩⟩⟩⟩⟩⟩
          · refine s_iconst (pc := 67) hF dX0_isBarred_67 (1 : Int32) (by decide) ?_
            refine s_goto (pc := 68) hF 72 dX0_isBarred_68 rfl ?_
            exact SK.sb (gX0_isBarred_J72 hF ih l0 l1 l2 l3 l4 l6 l5 (1 : Int32) M10 z11) ⟨rfl, ⟨rfl, ⟨rfl, ⟨rfl, ⟨rfl, ⟨rfl, trivial⟩⟩⟩⟩⟩⟩
def fX0_isBarred (a0 : Option Nat) (a1 : Int32) (a2 : Int32) (a3 : Int32) (a4 : Int32) (M : Mp) (z : Nat) : Rs Int32 := fX0_isBarred_L6 FU a0 a1 a2 a3 a4 (0 : Int32) (0 : Int32) M z
theorem gX0_isBarred {G : Cx} {F : Option Value × Mp × Nat} (hF : FX G cX0_isBarred 8 RX0 (Option.some Jvm.ClassFile.FieldType.boolean) "isBarred" 3 64) (a0 : Option Nat) (a1 : Int32) (a2 : Int32) (a3 : Int32) (a4 : Int32) (M : Mp) (z : Nat) : SK G F 8 eI 0 [some (va_rf a0), some (.int a1), some (.int a2), some (.int a3), some (.int a4), none, none, none] [] M z (fX0_isBarred a0 a1 a2 a3 a4 M z) := by
  unfold fX0_isBarred
  refine s_iconst (pc := 0) hF dX0_isBarred_0 (0 : Int32) (by decide) ?_
  refine s_istore (L9 := [some (va_rf a0), some (.int a1), some (.int a2), some (.int a3), some (.int a4), some (.int (0 : Int32)), none, none]) (pc := 1) hF dX0_isBarred_1 (Nat.le_of_ble_eq_true rfl) rfl ?_
  refine s_iconst (pc := 3) hF dX0_isBarred_3 (0 : Int32) (by decide) ?_
  refine s_istore (L9 := [some (va_rf a0), some (.int a1), some (.int a2), some (.int a3), some (.int a4), some (.int (0 : Int32)), some (.int (0 : Int32)), none]) (pc := 4) hF dX0_isBarred_4 (Nat.le_of_ble_eq_true rfl) rfl ?_
  exact SK.sb (gX0_isBarred_L6 hF FU a0 a1 a2 a3 a4 (0 : Int32) (0 : Int32) M z) ⟨rfl, ⟨rfl, ⟨rfl, ⟨rfl, ⟨rfl, ⟨rfl, ⟨rfl, trivial⟩⟩⟩⟩⟩⟩⟩
theorem mX0_isBarred (a0 : Option Nat) (a1 : Int32) (a2 : Int32) (a3 : Int32) (a4 : Int32) : MT yX0_isBarred cX0_isBarred 8 (Option.some Jvm.ClassFile.FieldType.boolean) 3 64 eI [va_rf a0, .int a1, .int a2, .int a3, .int a4] (fX0_isBarred a0 a1 a2 a3 a4) :=
  MT.of (L0 := [some (va_rf a0), some (.int a1), some (.int a2), some (.int a3), some (.int a4), none, none, none]) (by decide) ⟨ct _, ⟨rfl, ⟨rfl, ⟨rfl, ⟨rfl, trivial⟩⟩⟩⟩⟩ (Nat.le_of_ble_eq_true rfl) rfl (fun _ _ hF M z => gX0_isBarred hF a0 a1 a2 a3 a4 M z)

theorem fl_X3_23 {G : Cx} {nL fr lc : Nat} {cc : ByteArray} {ret : Option FieldType} {nm : String} (hF : FX G cc nL RX3 ret nm fr lc) : ∀ c ∈ [3], GF G RX3 23 c 3 := by
  obtain ⟨⟨p, l, e, R, s, m, args, below, meth, c0⟩, A, D, dA, mi⟩ := G
  obtain ⟨hx, hb, hml, hown, hts, hr, hlk, hK, hnm, hfr, hlc⟩ := hF
  exact List.forall_mem_cons.mpr ⟨⟨RX3, TX3, 14, "StoryColumns$Head", rfl, in_X3, Nat.le_of_ble_eq_true rfl, Or.inl (hts _ q190), u_same (hts _ q191)⟩, fun _ h9 => absurd h9 List.not_mem_nil⟩
theorem fl_X3_3 {G : Cx} {nL fr lc : Nat} {cc : ByteArray} {ret : Option FieldType} {nm : String} (hF : FX G cc nL RX3 ret nm fr lc) : ∀ c ∈ [3], GF G RX3 3 c 13 := by
  obtain ⟨⟨p, l, e, R, s, m, args, below, meth, c0⟩, A, D, dA, mi⟩ := G
  obtain ⟨hx, hb, hml, hown, hts, hr, hlk, hK, hnm, hfr, hlc⟩ := hF
  exact List.forall_mem_cons.mpr ⟨⟨RX3, TX3, 14, "StoryColumns$Head", rfl, in_X3, Nat.le_of_ble_eq_true rfl, Or.inl (hts _ q172), fun _ h => h⟩, fun _ h9 => absurd h9 List.not_mem_nil⟩
theorem fl_X3_26 {G : Cx} {nL fr lc : Nat} {cc : ByteArray} {ret : Option FieldType} {nm : String} (hF : FX G cc nL RX3 ret nm fr lc) : ∀ c ∈ [3], GF G RX3 26 c 1 := by
  obtain ⟨⟨p, l, e, R, s, m, args, below, meth, c0⟩, A, D, dA, mi⟩ := G
  obtain ⟨hx, hb, hml, hown, hts, hr, hlk, hK, hnm, hfr, hlc⟩ := hF
  exact List.forall_mem_cons.mpr ⟨⟨RX3, TX3, 14, "StoryColumns$Head", rfl, in_X3, Nat.le_of_ble_eq_true rfl, Or.inl (hts _ q180), u_same (hts _ q181)⟩, fun _ h9 => absurd h9 List.not_mem_nil⟩
theorem fl_X3_19 {G : Cx} {nL fr lc : Nat} {cc : ByteArray} {ret : Option FieldType} {nm : String} (hF : FX G cc nL RX3 ret nm fr lc) : ∀ c ∈ [3], GF G RX3 19 c 6 := by
  obtain ⟨⟨p, l, e, R, s, m, args, below, meth, c0⟩, A, D, dA, mi⟩ := G
  obtain ⟨hx, hb, hml, hown, hts, hr, hlk, hK, hnm, hfr, hlc⟩ := hF
  exact List.forall_mem_cons.mpr ⟨⟨RX3, TX3, 14, "StoryColumns$Head", rfl, in_X3, Nat.le_of_ble_eq_true rfl, Or.inl (hts _ q202), u_same (hts _ q203)⟩, fun _ h9 => absurd h9 List.not_mem_nil⟩
theorem cw_X0_isBarred : CWm yX0_isBarred cX0_isBarred 8 (Option.some Jvm.ClassFile.FieldType.boolean) 4 := ⟨q654, q59, by decide +kernel, by decide +kernel, by decide +kernel⟩
def fX3_reachesAcross_J71 (r30 : Option Nat → Int32 → Int32 → Int32 → Mp → Nat → Rs Int32) (l0 : Option Nat) (l1 : Int32) (l3 : Int32) (s0 : Int32) (M : Mp) (z : Nat) : Rs Int32 := r30 l0 l1 s0 (l3 + 1) M z

theorem gX3_reachesAcross_J71 {G : Cx} {F : Option Value × Mp × Nat}  {r30 : Option Nat → Int32 → Int32 → Int32 → Mp → Nat → Rs Int32}(hF : FX G cX3_reachesAcross 4 RX3 (Option.some Jvm.ClassFile.FieldType.boolean) "reachesAcross" 4 91) (hr30 : ∀ l0 l1 l2 l3 M z, SK G F 4 eI 30 [some (va_rf l0), some (.int l1), some (.int l2), some (.int l3)] [] M z (r30 l0 l1 l2 l3 M z)) (l0 : Option Nat) (l1 : Int32) (l3 : Int32) (s0 : Int32) (M : Mp) (z : Nat) : SK G F 4 eI 71 [some (va_rf l0), some (.int l1), none, some (.int l3)] [.int s0] M z (fX3_reachesAcross_J71 r30 l0 l1 l3 s0 M z) := by
  unfold fX3_reachesAcross_J71
  refine s_istore_n (L9 := [some (va_rf l0), some (.int l1), some (.int s0), some (.int l3)]) (pc := 71) hF dX3_reachesAcross_71 rfl (Nat.le_of_ble_eq_true rfl) rfl ?_
  refine s_iinc (v := l3 + 1) (L9 := [some (va_rf l0), some (.int l1), some (.int s0), some (.int (l3 + 1))]) (pc := 72) hF dX3_reachesAcross_72 rfl rfl (Nat.le_of_ble_eq_true rfl) rfl ?_
  refine s_goto (pc := 75) hF 30 dX3_reachesAcross_75 rfl ?_
  exact SK.sb (hr30 l0 l1 s0 (l3 + 1) M z) ⟨rfl, ⟨rfl, ⟨rfl, ⟨rfl, trivial⟩⟩⟩⟩

def fX3_reachesAcross_L30 : Nat → Option Nat → Int32 → Int32 → Int32 → Mp → Nat → Rs Int32
  | 0, _, _, _, _, _, _ => none
  | fu + 1, l0, l1, l2, l3, M, z => if l1 < l3 then
  (if l2 = 0 ∨ l2 = 1 then some (l2, M, 0, 0) else none)
else
  (if l2 = 0 then
  (if l2 = 0 ∨ l2 = 1 then some (l2, M, 0, 0) else none)
else
  ((gr M l0 [3] 13).bind fun v1 =>
(gi M l0 [3] 1).bind fun v2 =>
(gi M l0 [3] 6).bind fun v3 =>
(gi M l0 [3] 6).bind fun v4 =>
if ckc M v1 [0] = true then
  (cb (fX0_isBarred v1 v2 l3 (v3 + (1 : Int32)) (v4 + (1 : Int32)) M z) z fun v5 M6 z7 =>
if v5 = 0 then
  (fX3_reachesAcross_J71 (fX3_reachesAcross_L30 fu) l0 l1 l3 (1 : Int32) M6 z7)
else
  (fX3_reachesAcross_J71 (fX3_reachesAcross_L30 fu) l0 l1 l3 (0 : Int32) M6 z7))
else none))

theorem gX3_reachesAcross_L30 {G : Cx} {F : Option Value × Mp × Nat} (hF : FX G cX3_reachesAcross 4 RX3 (Option.some Jvm.ClassFile.FieldType.boolean) "reachesAcross" 4 91) : ∀ (fu : Nat) (l0 : Option Nat) (l1 : Int32) (l2 : Int32) (l3 : Int32) (M : Mp) (z : Nat), SK G F 4 eI 30 [some (va_rf l0), some (.int l1), some (.int l2), some (.int l3)] [] M z (fX3_reachesAcross_L30 fu l0 l1 l2 l3 M z) := by
  intro fu
  induction fu with
  | zero => intros; exact SK.fail
  | succ fu ih =>
    intro l0 l1 l2 l3 M z
    rw [fX3_reachesAcross_L30]
    refine s_iload_n (pc := 30) hF dX3_reachesAcross_30 rfl rfl ?_
    refine s_iload_n (pc := 31) hF dX3_reachesAcross_31 rfl rfl ?_
    refine s_icmp_gt (pc := 32) hF 78 dX3_reachesAcross_32 rfl ?_ ?_
    · refine s_iload_n (pc := 78) hF dX3_reachesAcross_78 rfl rfl ?_
      exact s_zret (pc := 79) hF dX3_reachesAcross_79
    · refine s_iload_n (pc := 35) hF dX3_reachesAcross_35 rfl rfl ?_
      refine s_if_eq (pc := 36) hF 78 dX3_reachesAcross_36 rfl ?_ ?_
      · refine s_iload_n (pc := 78) hF dX3_reachesAcross_78 rfl rfl ?_
        exact s_zret (pc := 79) hF dX3_reachesAcross_79
      · refine s_aload_n (pc := 39) hF dX3_reachesAcross_39 rfl rfl ?_
        refine s_getr (pc := 40) hF (fl_X3_3 hF) dX3_reachesAcross_40 (fun v1 => ?_)
        refine s_aload_n (pc := 43) hF dX3_reachesAcross_43 rfl rfl ?_
        refine s_geti (pc := 44) hF (fl_X3_26 hF) dX3_reachesAcross_44 (fun v2 => ?_)
        refine s_iload_n (pc := 47) hF dX3_reachesAcross_47 rfl rfl ?_
        refine s_aload_n (pc := 48) hF dX3_reachesAcross_48 rfl rfl ?_
        refine s_geti (pc := 49) hF (fl_X3_19 hF) dX3_reachesAcross_49 (fun v3 => ?_)
        refine s_iconst (pc := 52) hF dX3_reachesAcross_52 (1 : Int32) (by decide) ?_
        refine s_iadd (pc := 53) hF dX3_reachesAcross_53 ?_
        refine s_aload_n (pc := 54) hF dX3_reachesAcross_54 rfl rfl ?_
        refine s_geti (pc := 55) hF (fl_X3_19 hF) dX3_reachesAcross_55 (fun v4 => ?_)
        refine s_iconst (pc := 58) hF dX3_reachesAcross_58 (1 : Int32) (by decide) ?_
        refine s_iadd (pc := 59) hF dX3_reachesAcross_59 ?_
        refine s_callN (pc := 60) (As := [.int v2, .int l3, .int (v3 + (1 : Int32)), .int (v4 + (1 : Int32))]) (st := []) (stf := fun r9 => .int r9 :: []) hF (mX0_isBarred v1 v2 l3 (v3 + (1 : Int32)) (v4 + (1 : Int32))) cw_X0_isBarred n_q651 q653 (List.forall_mem_cons.mpr ⟨⟨(RX0, TX0, 6), rfl, qs7⟩, fun _ h9 => absurd h9 List.not_mem_nil⟩) rfl ⟨Nat.le_of_ble_eq_true rfl, Nat.le_of_ble_eq_true rfl⟩ ⟨trivial, Nat.le_of_ble_eq_true rfl⟩ dX3_reachesAcross_60 rfl (fun _ => rfl) (fun v5 M6 z7 => ?_)
        refine s_if_ne (pc := 63) hF 70 dX3_reachesAcross_63 rfl ?_ ?_
        · refine s_iconst (pc := 70) hF dX3_reachesAcross_70 (0 : Int32) (by decide) ?_
          exact SK.sb (gX3_reachesAcross_J71 hF ih l0 l1 l3 (0 : Int32) M6 z7) ⟨rfl, ⟨rfl, ⟨rfl, trivial⟩⟩⟩
        · refine s_iconst (pc := 66) hF dX3_reachesAcross_66 (1 : Int32) (by decide) ?_
          refine s_goto (pc := 67) hF 71 dX3_reachesAcross_67 rfl ?_
          exact SK.sb (gX3_reachesAcross_J71 hF ih l0 l1 l3 (1 : Int32) M6 z7) ⟨rfl, ⟨rfl, ⟨rfl, trivial⟩⟩⟩

def fX3_reachesAcross_J22 (l0 : Option Nat) (l1 : Int32) (s0 : Int32) (M : Mp) (z : Nat) : Rs Int32 := (gi M l0 [3] 3).bind fun v1 =>
fX3_reachesAcross_L30 FU l0 l1 s0 (v1 + (1 : Int32)) M z

theorem gX3_reachesAcross_J22 {G : Cx} {F : Option Value × Mp × Nat} (hF : FX G cX3_reachesAcross 4 RX3 (Option.some Jvm.ClassFile.FieldType.boolean) "reachesAcross" 4 91) (l0 : Option Nat) (l1 : Int32) (s0 : Int32) (M : Mp) (z : Nat) : SK G F 4 eI 22 [some (va_rf l0), some (.int l1), none, none] [.int s0] M z (fX3_reachesAcross_J22 l0 l1 s0 M z) := by
  unfold fX3_reachesAcross_J22
  refine s_istore_n (L9 := [some (va_rf l0), some (.int l1), some (.int s0), none]) (pc := 22) hF dX3_reachesAcross_22 rfl (Nat.le_of_ble_eq_true rfl) rfl ?_
  refine s_aload_n (pc := 23) hF dX3_reachesAcross_23 rfl rfl ?_
  refine s_geti (pc := 24) hF (fl_X3_23 hF) dX3_reachesAcross_24 (fun v1 => ?_)
  refine s_iconst (pc := 27) hF dX3_reachesAcross_27 (1 : Int32) (by decide) ?_
  refine s_iadd (pc := 28) hF dX3_reachesAcross_28 ?_
  refine s_istore_n (L9 := [some (va_rf l0), some (.int l1), some (.int s0), some (.int (v1 + (1 : Int32)))]) (pc := 29) hF dX3_reachesAcross_29 rfl (Nat.le_of_ble_eq_true rfl) rfl ?_
  exact SK.sb (gX3_reachesAcross_L30 hF FU l0 l1 s0 (v1 + (1 : Int32)) M z) ⟨rfl, ⟨rfl, ⟨rfl, ⟨rfl, trivial⟩⟩⟩⟩
def fX3_reachesAcross (a0 : Option Nat) (a1 : Int32) (M : Mp) (z : Nat) : Rs Int32 := if ckc M a0 [3] = true then
  (cb (fX11_hasColumn a0 a1 M z) z fun v1 M2 z3 =>
if v1 = 0 then
  (fX3_reachesAcross_J22 a0 a1 (0 : Int32) M2 z3)
else
  ((gi M2 a0 [3] 6).bind fun v4 =>
if v4 < (29 : Int32) then
  (fX3_reachesAcross_J22 a0 a1 (1 : Int32) M2 z3)
else
  (fX3_reachesAcross_J22 a0 a1 (0 : Int32) M2 z3)))
else none
theorem gX3_reachesAcross {G : Cx} {F : Option Value × Mp × Nat} (hF : FX G cX3_reachesAcross 4 RX3 (Option.some Jvm.ClassFile.FieldType.boolean) "reachesAcross" 4 91) (a0 : Option Nat) (a1 : Int32) (M : Mp) (z : Nat) : SK G F 4 eI 0 [some (va_rf a0), some (.int a1), none, none] [] M z (fX3_reachesAcross a0 a1 M z) := by
  unfold fX3_reachesAcross
  refine s_aload_n (pc := 0) hF dX3_reachesAcross_0 rfl rfl ?_
  refine s_iload_n (pc := 1) hF dX3_reachesAcross_1 rfl rfl ?_
  refine s_callU (pc := 2) (As := [.int a1]) (st := []) (stf := fun r9 => .int r9 :: []) hF (mX11_hasColumn a0 a1) q631 q629 q251 (by decide) n_d6 n_d3 (fun _ _ _ _ h => h.2.2.2.2.2.2.2.1.1) (by show _ = some 1; decide +kernel) ⟨Nat.le_of_ble_eq_true rfl, Nat.le_of_ble_eq_true rfl⟩ ⟨trivial, Nat.le_of_ble_eq_true rfl⟩ dX3_reachesAcross_2 rfl (fun _ => rfl) (fun v1 M2 z3 => ?_)
  refine s_if_eq (pc := 5) hF 21 dX3_reachesAcross_5 rfl ?_ ?_
  · refine s_iconst (pc := 21) hF dX3_reachesAcross_21 (0 : Int32) (by decide) ?_
    exact SK.sb (gX3_reachesAcross_J22 hF a0 a1 (0 : Int32) M2 z3) ⟨rfl, ⟨rfl, trivial⟩⟩
  · refine s_aload_n (pc := 8) hF dX3_reachesAcross_8 rfl rfl ?_
    refine s_geti (pc := 9) hF (fl_X3_19 hF) dX3_reachesAcross_9 (fun v4 => ?_)
    refine s_bipush (pc := 12) hF dX3_reachesAcross_12 (29 : Int32) (by decide) ?_
    refine s_icmp_ge (pc := 14) hF 21 dX3_reachesAcross_14 rfl ?_ ?_
    · refine s_iconst (pc := 21) hF dX3_reachesAcross_21 (0 : Int32) (by decide) ?_
      exact SK.sb (gX3_reachesAcross_J22 hF a0 a1 (0 : Int32) M2 z3) ⟨rfl, ⟨rfl, trivial⟩⟩
    · refine s_iconst (pc := 17) hF dX3_reachesAcross_17 (1 : Int32) (by decide) ?_
      refine s_goto (pc := 18) hF 22 dX3_reachesAcross_18 rfl ?_
      exact SK.sb (gX3_reachesAcross_J22 hF a0 a1 (1 : Int32) M2 z3) ⟨rfl, ⟨rfl, trivial⟩⟩
theorem mX3_reachesAcross (a0 : Option Nat) (a1 : Int32) : MT yX3_reachesAcross cX3_reachesAcross 4 (Option.some Jvm.ClassFile.FieldType.boolean) 4 91 eI [va_rf a0, .int a1] (fX3_reachesAcross a0 a1) :=
  MT.of (L0 := [some (va_rf a0), some (.int a1), none, none]) (by decide) ⟨ct _, ⟨rfl, trivial⟩⟩ (Nat.le_of_ble_eq_true rfl) rfl (fun _ _ hF M z => gX3_reachesAcross hF a0 a1 M z)
