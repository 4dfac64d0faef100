set_option maxRecDepth 100000
theorem cw_J8_copyOf_2 : CWm yJ8_copyOf_2 cJ8_copyOf_2 4 (Option.some (Jvm.ClassFile.FieldType.array (Jvm.ClassFile.FieldType.object "java/lang/Object"))) 3 := ⟨q500, q71, by decide +kernel, by decide +kernel, by decide +kernel⟩
def fJ8c (a0 : Option Nat) (a1 : Int32) (M : Mp) (z : Nat) : Rs (Option Nat) := nwq 2 a1 M z fun M1 z1 =>
  (al M1 a0).bind fun v => (ac M1 a0 0 (some z) 0 (mn v a1)).bind fun M2 => some (some z, M2, 0, 0)
theorem gJ8c {G : Cx} {F : Option Value × Mp × Nat} (hF : FX G cJ8_copyOf_2 4 RJ8 (Option.some (Jvm.ClassFile.FieldType.array (Jvm.ClassFile.FieldType.object "java/lang/Object"))) "copyOf" 1 60) (a0 : Option Nat) (a1 : Int32) (M : Mp) (z : Nat) : SK G F 4 eR 0 [some (va_rf a0), some (.int a1), some (va_rf (some (miOf G))), none] [] M z (fJ8c a0 a1 M z) := by
  unfold fJ8c
  refine s_aload_n (pc := 0) hF dJ8_copyOf_2_0 rfl rfl ?_
  refine s_ldcM (pc := 1) hF q501 dJ8_copyOf_2_1 ?_
  refine s_acmp_same (pc := 3) (tgt := 13) hF dJ8_copyOf_2_3 rfl ?_
  refine s_iload_n (pc := 6) hF dJ8_copyOf_2_6 rfl rfl ?_
  refine s_nwq (pc := 7) hF 2 "java/lang/Object" dJ8_copyOf_2_7 (by decide) q502 (fun M1 z1 => ?_)
  refine s_goto (pc := 10) hF 24 dJ8_copyOf_2_10 rfl ?_
  refine s_astore_n (L9 := [some (va_rf a0), some (.int a1), some (va_rf (some (miOf G))), some (va_rf (some z))]) (pc := 24) hF dJ8_copyOf_2_24 rfl (Nat.le_of_ble_eq_true rfl) rfl ?_
  refine s_aload_n (pc := 25) hF dJ8_copyOf_2_25 rfl rfl ?_
  refine s_iconst (pc := 26) hF dJ8_copyOf_2_26 (0 : Int32) (by decide) ?_
  refine s_aload_n (pc := 27) hF dJ8_copyOf_2_27 rfl rfl ?_
  refine s_iconst (pc := 28) hF dJ8_copyOf_2_28 (0 : Int32) (by decide) ?_
  refine s_aload_n (pc := 29) hF dJ8_copyOf_2_29 rfl rfl ?_
  refine s_alen (pc := 30) hF dJ8_copyOf_2_30 (fun v => ?_)
  refine s_iload_n (pc := 31) hF dJ8_copyOf_2_31 rfl rfl ?_
  refine s_min (pc := 32) hF q503 ⟨Nat.le_of_ble_eq_true rfl, Nat.le_of_ble_eq_true rfl⟩ ⟨⟨rfl, ⟨ct _, ⟨rfl, ⟨ct _, trivial⟩⟩⟩⟩, Nat.le_of_ble_eq_true rfl⟩ dJ8_copyOf_2_32 ?_
  refine s_acopy (pc := 35) hF q506 ⟨Nat.le_of_ble_eq_true rfl, Nat.le_of_ble_eq_true rfl⟩ ⟨trivial, Nat.le_of_ble_eq_true rfl⟩ dJ8_copyOf_2_35 (fun M2 => ?_)
  refine s_aload_n (pc := 38) hF dJ8_copyOf_2_38 rfl rfl ?_
  exact s_aret (pc := 39) hF rfl (Or.inr ⟨_, rfl⟩) dJ8_copyOf_2_39
theorem mJ8c (G : Cx) (a0 : Option Nat) (a1 : Int32) : MTg G yJ8_copyOf_2 cJ8_copyOf_2 4 (Option.some (Jvm.ClassFile.FieldType.array (Jvm.ClassFile.FieldType.object "java/lang/Object"))) 1 60 eR [va_rf a0, .int a1, va_rf (some (miOf G))] (fJ8c a0 a1) :=
  MTg.of (G0 := G) (av := fun i => [va_rf a0, .int a1, va_rf (some i)]) (L0 := fun i => [some (va_rf a0), some (.int a1), some (va_rf (some i)), none]) (by decide) (fun _ => ⟨ct _, ⟨rfl, ⟨ct _, trivial⟩⟩⟩) (fun _ => Nat.le_of_ble_eq_true rfl) (fun _ => rfl) (fun _ _ hF M z => gJ8c hF a0 a1 M z)
def fJ8_copyOf (a0 : Option Nat) (a1 : Int32) (M : Mp) (z : Nat) : Rs (Option Nat) := if isA2 M a0 = true then cb (fJ8c a0 a1 M z) z fun v M1 z1 => some (v, M1, 0, 0) else none
theorem gJ8_copyOf {G : Cx} {F : Option Value × Mp × Nat} (hF : FX G cJ8_copyOf 2 RJ8 (Option.some (Jvm.ClassFile.FieldType.array (Jvm.ClassFile.FieldType.object "java/lang/Object"))) "copyOf" 6 200) (a0 : Option Nat) (a1 : Int32) (M : Mp) (z : Nat) : SK G F 2 eR 0 [some (va_rf a0), some (.int a1)] [] M z (fJ8_copyOf a0 a1 M z) := by
  unfold fJ8_copyOf
  refine s_aload_n (pc := 0) hF dJ8_copyOf_0 rfl rfl ?_
  refine s_iload_n (pc := 1) hF dJ8_copyOf_1 rfl rfl ?_
  refine s_aload_n (pc := 2) hF dJ8_copyOf_2 rfl rfl ?_
  refine s_getC (pc := 3) hF q481 q1374 q482 q497 n_q1375 ⟨Nat.le_of_ble_eq_true rfl, Nat.le_of_ble_eq_true rfl⟩ ⟨⟨rfl, ⟨ct _, trivial⟩⟩, Nat.le_of_ble_eq_true rfl⟩ dJ8_copyOf_3 ?_
  refine s_callSg (pc := 6) (As := [va_rf a0, .int a1, va_rf (some (miOf G))]) (st := []) (stf := fun r9 => va_rf r9 :: []) hF (mJ8c G a0 a1) cw_J8_copyOf_2 q498 q499 rfl ⟨Nat.le_of_ble_eq_true rfl, Nat.le_of_ble_eq_true rfl⟩ ⟨trivial, Nat.le_of_ble_eq_true rfl⟩ dJ8_copyOf_6 rfl (fun _ => rfl) (fun v M1 z1 => ?_)
  exact s_aret (pc := 9) hF rfl (Or.inr ⟨_, rfl⟩) dJ8_copyOf_9
theorem mJ8_copyOf (a0 : Option Nat) (a1 : Int32) : MT yJ8_copyOf cJ8_copyOf 2 (Option.some (Jvm.ClassFile.FieldType.array (Jvm.ClassFile.FieldType.object "java/lang/Object"))) 6 200 eR [va_rf a0, .int a1] (fJ8_copyOf a0 a1) :=
  MT.of (L0 := [some (va_rf a0), some (.int a1)]) (by decide) ⟨ct _, ⟨rfl, trivial⟩⟩ (Nat.le_of_ble_eq_true rfl) rfl (fun _ _ hF M z => gJ8_copyOf hF a0 a1 M z)
