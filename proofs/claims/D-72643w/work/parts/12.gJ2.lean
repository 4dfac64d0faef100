set_option maxRecDepth 100000
theorem cw_J8_copyOf : CWm yJ8_copyOf cJ8_copyOf 2 (Option.some (Jvm.ClassFile.FieldType.array (Jvm.ClassFile.FieldType.object "java/lang/Object"))) 2 := ⟨q480, q71, by decide +kernel, by decide +kernel, by decide +kernel⟩
theorem cw_J6_newLength : CWm yJ6_newLength cJ6_newLength 4 (Option.some Jvm.ClassFile.FieldType.int) 3 := ⟨q470, q69, by decide +kernel, by decide +kernel, by decide +kernel⟩
def fJ2_grow_2 (a0 : Option Nat) (a1 : Int32) (M : Mp) (z : Nat) : Rs (Option Nat) := (gr M a0 [11] 1).bind fun v1 =>
(al M v1).bind fun v2 =>
if 0 < v2 then
  (cb (fJ6_newLength v2 (a1 - v2) (v2 >>> ((1 : Int32) &&& 31)) M z) z fun v3 M4 z5 =>
(gr M4 a0 [11] 1).bind fun v6 =>
cb (fJ8_copyOf v6 v3 M4 z5) z5 fun v7 M8 z9 =>
(pu M8 a0 [11] 1 (va_rf v7)).bind fun M10 =>
some (v7, M10, 0, 0))
else
  (none)
theorem gJ2_grow_2 {G : Cx} {F : Option Value × Mp × Nat} (hF : FX G cJ2_grow_2 4 RJ2 (Option.some (Jvm.ClassFile.FieldType.array (Jvm.ClassFile.FieldType.object "java/lang/Object"))) "grow" 7 221) (a0 : Option Nat) (a1 : Int32) (M : Mp) (z : Nat) : SK G F 4 eR 0 [some (va_rf a0), some (.int a1), none, none] [] M z (fJ2_grow_2 a0 a1 M z) := by
  unfold fJ2_grow_2
  refine s_aload_n (pc := 0) hF dJ2_grow_2_0 rfl rfl ?_
  refine s_getr (pc := 1) hF (fl_J2_9 hF) dJ2_grow_2_1 (fun v1 => ?_)
  refine s_alen (pc := 4) hF dJ2_grow_2_4 (fun v2 => ?_)
  refine s_istore_n (L9 := [some (va_rf a0), some (.int a1), some (.int v2), none]) (pc := 5) hF dJ2_grow_2_5 rfl (Nat.le_of_ble_eq_true rfl) rfl ?_
  refine s_iload_n (pc := 6) hF dJ2_grow_2_6 rfl rfl ?_
  refine s_if_gt (pc := 7) hF 20 dJ2_grow_2_7 rfl ?_ ?_
  · refine s_iload_n (pc := 20) hF dJ2_grow_2_20 rfl rfl ?_
    refine s_iload_n (pc := 21) hF dJ2_grow_2_21 rfl rfl ?_
    refine s_iload_n (pc := 22) hF dJ2_grow_2_22 rfl rfl ?_
    refine s_isub (pc := 23) hF dJ2_grow_2_23 ?_
    refine s_iload_n (pc := 24) hF dJ2_grow_2_24 rfl rfl ?_
    refine s_iconst (pc := 25) hF dJ2_grow_2_25 (1 : Int32) (by decide) ?_
    refine s_ishr (pc := 26) hF dJ2_grow_2_26 ?_
    refine s_callS (pc := 27) (As := [.int v2, .int (a1 - v2), .int (v2 >>> ((1 : Int32) &&& 31))]) (st := []) (stf := fun r9 => .int r9 :: []) hF (mJ6_newLength v2 (a1 - v2) (v2 >>> ((1 : Int32) &&& 31))) cw_J6_newLength q468 q469 rfl ⟨Nat.le_of_ble_eq_true rfl, Nat.le_of_ble_eq_true rfl⟩ ⟨trivial, Nat.le_of_ble_eq_true rfl⟩ dJ2_grow_2_27 rfl (fun _ => rfl) (fun v3 M4 z5 => ?_)
    refine s_istore_n (L9 := [some (va_rf a0), some (.int a1), some (.int v2), some (.int v3)]) (pc := 30) hF dJ2_grow_2_30 rfl (Nat.le_of_ble_eq_true rfl) rfl ?_
    refine s_aload_n (pc := 31) hF dJ2_grow_2_31 rfl rfl ?_
    refine s_aload_n (pc := 32) hF dJ2_grow_2_32 rfl rfl ?_
    refine s_getr (pc := 33) hF (fl_J2_9 hF) dJ2_grow_2_33 (fun v6 => ?_)
    refine s_iload_n (pc := 36) hF dJ2_grow_2_36 rfl rfl ?_
    refine s_callS (pc := 37) (As := [va_rf v6, .int v3]) (st := [va_rf a0]) (stf := fun r9 => va_rf r9 :: [va_rf a0]) hF (mJ8_copyOf v6 v3) cw_J8_copyOf q478 q479 rfl ⟨Nat.le_of_ble_eq_true rfl, Nat.le_of_ble_eq_true rfl⟩ ⟨⟨ct _, trivial⟩, Nat.le_of_ble_eq_true rfl⟩ dJ2_grow_2_37 rfl (fun _ => rfl) (fun v7 M8 z9 => ?_)
    refine s_dup_x1 (pc := 40) hF dJ2_grow_2_40 (ct _) (ct _) ?_
    refine s_put (pc := 41) hF (pl_J2_9 hF _) dJ2_grow_2_41 (fun M10 => ?_)
    exact s_aret (pc := 44) hF rfl (Or.inr ⟨_, rfl⟩) dJ2_grow_2_44
  · exact SK.fail
theorem mJ2_grow_2 (a0 : Option Nat) (a1 : Int32) : MT yJ2_grow_2 cJ2_grow_2 4 (Option.some (Jvm.ClassFile.FieldType.array (Jvm.ClassFile.FieldType.object "java/lang/Object"))) 7 221 eR [va_rf a0, .int a1] (fJ2_grow_2 a0 a1) :=
  MT.of (L0 := [some (va_rf a0), some (.int a1), none, none]) (by decide) ⟨ct _, ⟨rfl, trivial⟩⟩ (Nat.le_of_ble_eq_true rfl) rfl (fun _ _ hF M z => gJ2_grow_2 hF a0 a1 M z)

theorem cw_J2_grow_2 : CWm yJ2_grow_2 cJ2_grow_2 4 (Option.some (Jvm.ClassFile.FieldType.array (Jvm.ClassFile.FieldType.object "java/lang/Object"))) 1 := ⟨q465, q62, by decide +kernel, by decide +kernel, by decide +kernel⟩
def fJ2_grow (a0 : Option Nat) (M : Mp) (z : Nat) : Rs (Option Nat) := (gi M a0 [11] 2).bind fun v1 =>
if ckc M a0 [11] = true then
  (cb (fJ2_grow_2 a0 (v1 + (1 : Int32)) M z) z fun v2 M3 z4 =>
some (v2, M3, 0, 0))
else none
theorem gJ2_grow {G : Cx} {F : Option Value × Mp × Nat} (hF : FX G cJ2_grow 1 RJ2 (Option.some (Jvm.ClassFile.FieldType.array (Jvm.ClassFile.FieldType.object "java/lang/Object"))) "grow" 8 244) (a0 : Option Nat) (M : Mp) (z : Nat) : SK G F 1 eR 0 [some (va_rf a0)] [] M z (fJ2_grow a0 M z) := by
  unfold fJ2_grow
  refine s_aload_n (pc := 0) hF dJ2_grow_0 rfl rfl ?_
  refine s_aload_n (pc := 1) hF dJ2_grow_1 rfl rfl ?_
  refine s_geti (pc := 2) hF (fl_J2_48 hF) dJ2_grow_2 (fun v1 => ?_)
  refine s_iconst (pc := 5) hF dJ2_grow_5 (1 : Int32) (by decide) ?_
  refine s_iadd (pc := 6) hF dJ2_grow_6 ?_
  refine s_callV (pc := 7) (As := [.int (v1 + (1 : Int32))]) (st := []) (stf := fun r9 => va_rf r9 :: []) hF (mJ2_grow_2 a0 (v1 + (1 : Int32))) cw_J2_grow_2 q462 q464 (List.forall_mem_cons.mpr ⟨⟨(RJ2, TJ2, 3), rfl, qs3⟩, fun _ h9 => absurd h9 List.not_mem_nil⟩) rfl ⟨Nat.le_of_ble_eq_true rfl, Nat.le_of_ble_eq_true rfl⟩ ⟨trivial, Nat.le_of_ble_eq_true rfl⟩ dJ2_grow_7 rfl (fun _ => rfl) (fun v2 M3 z4 => ?_)
  exact s_aret (pc := 10) hF rfl (Or.inr ⟨_, rfl⟩) dJ2_grow_10
theorem mJ2_grow (a0 : Option Nat) : MT yJ2_grow cJ2_grow 1 (Option.some (Jvm.ClassFile.FieldType.array (Jvm.ClassFile.FieldType.object "java/lang/Object"))) 8 244 eR [va_rf a0] (fJ2_grow a0) :=
  MT.of (L0 := [some (va_rf a0)]) (by decide) ⟨ct _, trivial⟩ (Nat.le_of_ble_eq_true rfl) rfl (fun _ _ hF M z => gJ2_grow hF a0 M z)

theorem cw_J2_grow : CWm yJ2_grow cJ2_grow 1 (Option.some (Jvm.ClassFile.FieldType.array (Jvm.ClassFile.FieldType.object "java/lang/Object"))) 0 := ⟨q461, q62, by decide +kernel, by decide +kernel, by decide +kernel⟩
def fJ2_add_2_J11 (l0 : Option Nat) (l1 : Option Nat) (l2 : Option Nat) (l3 : Int32) (M : Mp) (z : Nat) : Rs Unit := (sr M 2 l2 l3 l1).bind fun M1 =>
(pu M1 l0 [11] 2 (.int (l3 + (1 : Int32)))).bind fun M2 =>
some ((), M2, 0, 0)

theorem gJ2_add_2_J11 {G : Cx} {F : Option Value × Mp × Nat} (hF : FX G cJ2_add_2 4 RJ2 (Option.none : Option Jvm.ClassFile.FieldType) "add" 9 264) (l0 : Option Nat) (l1 : Option Nat) (l2 : Option Nat) (l3 : Int32) (M : Mp) (z : Nat) : SK G F 4 eV 11 [some (va_rf l0), some (va_rf l1), some (va_rf l2), some (.int l3)] [] M z (fJ2_add_2_J11 l0 l1 l2 l3 M z) := by
  unfold fJ2_add_2_J11
  refine s_aload_n (pc := 11) hF dJ2_add_2_11 rfl rfl ?_
  refine s_iload_n (pc := 12) hF dJ2_add_2_12 rfl rfl ?_
  refine s_aload_n (pc := 13) hF dJ2_add_2_13 rfl rfl ?_
  refine s_aast (pc := 14) 2 (by decide) hF dJ2_add_2_14 (fun M1 => ?_)
  refine s_aload_n (pc := 15) hF dJ2_add_2_15 rfl rfl ?_
  refine s_iload_n (pc := 16) hF dJ2_add_2_16 rfl rfl ?_
  refine s_iconst (pc := 17) hF dJ2_add_2_17 (1 : Int32) (by decide) ?_
  refine s_iadd (pc := 18) hF dJ2_add_2_18 ?_
  refine s_put (pc := 19) hF (pl_J2_48 hF _) dJ2_add_2_19 (fun M2 => ?_)
  exact s_vret (pc := 22) hF dJ2_add_2_22
def fJ2_add_2 (a0 : Option Nat) (a1 : Option Nat) (a2 : Option Nat) (a3 : Int32) (M : Mp) (z : Nat) : Rs Unit := (al M a2).bind fun v1 =>
if a3 = v1 then
  (if ckc M a0 [11] = true then
  (cb (fJ2_grow a0 M z) z fun v2 M3 z4 =>
fJ2_add_2_J11 a0 a1 v2 a3 M3 z4)
else none)
else
  (fJ2_add_2_J11 a0 a1 a2 a3 M z)
theorem gJ2_add_2 {G : Cx} {F : Option Value × Mp × Nat} (hF : FX G cJ2_add_2 4 RJ2 (Option.none : Option Jvm.ClassFile.FieldType) "add" 9 264) (a0 : Option Nat) (a1 : Option Nat) (a2 : Option Nat) (a3 : Int32) (M : Mp) (z : Nat) : SK G F 4 eV 0 [some (va_rf a0), some (va_rf a1), some (va_rf a2), some (.int a3)] [] M z (fJ2_add_2 a0 a1 a2 a3 M z) := by
  unfold fJ2_add_2
  refine s_iload_n (pc := 0) hF dJ2_add_2_0 rfl rfl ?_
  refine s_aload_n (pc := 1) hF dJ2_add_2_1 rfl rfl ?_
  refine s_alen (pc := 2) hF dJ2_add_2_2 (fun v1 => ?_)
  refine s_icmp_ne (pc := 3) hF 11 dJ2_add_2_3 rfl ?_ ?_
  · exact SK.sb (gJ2_add_2_J11 hF a0 a1 a2 a3 M z) ⟨rfl, ⟨rfl, ⟨rfl, ⟨rfl, trivial⟩⟩⟩⟩
  · refine s_aload_n (pc := 6) hF dJ2_add_2_6 rfl rfl ?_
    refine s_callV (pc := 7) (As := []) (st := []) (stf := fun r9 => va_rf r9 :: []) hF (mJ2_grow a0) cw_J2_grow q458 q460 (List.forall_mem_cons.mpr ⟨⟨(RJ2, TJ2, 3), rfl, qs2⟩, fun _ h9 => absurd h9 List.not_mem_nil⟩) rfl ⟨Nat.le_of_ble_eq_true rfl, Nat.le_of_ble_eq_true rfl⟩ ⟨trivial, Nat.le_of_ble_eq_true rfl⟩ dJ2_add_2_7 rfl (fun _ => rfl) (fun v2 M3 z4 => ?_)
    refine s_astore_n (L9 := [some (va_rf a0), some (va_rf a1), some (va_rf v2), some (.int a3)]) (pc := 10) hF dJ2_add_2_10 rfl (Nat.le_of_ble_eq_true rfl) rfl ?_
    exact SK.sb (gJ2_add_2_J11 hF a0 a1 v2 a3 M3 z4) ⟨rfl, ⟨rfl, ⟨rfl, ⟨rfl, trivial⟩⟩⟩⟩
theorem mJ2_add_2 (a0 : Option Nat) (a1 : Option Nat) (a2 : Option Nat) (a3 : Int32) : MT yJ2_add_2 cJ2_add_2 4 (Option.none : Option Jvm.ClassFile.FieldType) 9 264 eV [va_rf a0, va_rf a1, va_rf a2, .int a3] (fJ2_add_2 a0 a1 a2 a3) :=
  MT.of (L0 := [some (va_rf a0), some (va_rf a1), some (va_rf a2), some (.int a3)]) (by decide) ⟨ct _, ⟨ct _, ⟨ct _, ⟨rfl, trivial⟩⟩⟩⟩ (Nat.le_of_ble_eq_true rfl) rfl (fun _ _ hF M z => gJ2_add_2 hF a0 a1 a2 a3 M z)

theorem cw_J2_add_2 : CWm yJ2_add_2 cJ2_add_2 4 (Option.none : Option Jvm.ClassFile.FieldType) 3 := ⟨q457, q62, by decide +kernel, by decide +kernel, by decide +kernel⟩
def fJ2_add (a0 : Option Nat) (a1 : Option Nat) (M : Mp) (z : Nat) : Rs Int32 := (gi M a0 [11] 0).bind fun v1 =>
(pu M a0 [11] 0 (.int (v1 + (1 : Int32)))).bind fun M2 =>
(gr M2 a0 [11] 1).bind fun v3 =>
(gi M2 a0 [11] 2).bind fun v4 =>
if ckc M2 a0 [11] = true then
  (cb (fJ2_add_2 a0 a1 v3 v4 M2 z) z fun _ M6 z7 =>
some ((1 : Int32), M6, 0, 0))
else none
theorem gJ2_add {G : Cx} {F : Option Value × Mp × Nat} (hF : FX G cJ2_add 2 RJ2 (Option.some Jvm.ClassFile.FieldType.boolean) "add" 10 287) (a0 : Option Nat) (a1 : Option Nat) (M : Mp) (z : Nat) : SK G F 2 eI 0 [some (va_rf a0), some (va_rf a1)] [] M z (fJ2_add a0 a1 M z) := by
  unfold fJ2_add
  refine s_aload_n (pc := 0) hF dJ2_add_0 rfl rfl ?_
  refine s_dup (pc := 1) hF dJ2_add_1 (ct _) ?_
  refine s_geti (pc := 2) hF (fl_J2_63 hF) dJ2_add_2 (fun v1 => ?_)
  refine s_iconst (pc := 5) hF dJ2_add_5 (1 : Int32) (by decide) ?_
  refine s_iadd (pc := 6) hF dJ2_add_6 ?_
  refine s_put (pc := 7) hF (pl_J2_63 hF _) dJ2_add_7 (fun M2 => ?_)
  refine s_aload_n (pc := 10) hF dJ2_add_10 rfl rfl ?_
  refine s_aload_n (pc := 11) hF dJ2_add_11 rfl rfl ?_
  refine s_aload_n (pc := 12) hF dJ2_add_12 rfl rfl ?_
  refine s_getr (pc := 13) hF (fl_J2_9 hF) dJ2_add_13 (fun v3 => ?_)
  refine s_aload_n (pc := 16) hF dJ2_add_16 rfl rfl ?_
  refine s_geti (pc := 17) hF (fl_J2_48 hF) dJ2_add_17 (fun v4 => ?_)
  refine s_callV (pc := 20) (As := [va_rf a1, va_rf v3, .int v4]) (st := []) (stf := fun r9 => []) hF (mJ2_add_2 a0 a1 v3 v4) cw_J2_add_2 q454 q456 (List.forall_mem_cons.mpr ⟨⟨(RJ2, TJ2, 3), rfl, qs1⟩, fun _ h9 => absurd h9 List.not_mem_nil⟩) rfl ⟨Nat.le_of_ble_eq_true rfl, Nat.le_of_ble_eq_true rfl⟩ ⟨trivial, Nat.le_of_ble_eq_true rfl⟩ dJ2_add_20 rfl (fun _ => rfl) (fun v5 M6 z7 => ?_)
  refine s_iconst (pc := 23) hF dJ2_add_23 (1 : Int32) (by decide) ?_
  exact s_zretL (pc := 24) hF dJ2_add_24 (by decide)
theorem mJ2_add (a0 : Option Nat) (a1 : Option Nat) : MT yJ2_add cJ2_add 2 (Option.some Jvm.ClassFile.FieldType.boolean) 10 287 eI [va_rf a0, va_rf a1] (fJ2_add a0 a1) :=
  MT.of (L0 := [some (va_rf a0), some (va_rf a1)]) (by decide) ⟨ct _, ⟨ct _, trivial⟩⟩ (Nat.le_of_ble_eq_true rfl) rfl (fun _ _ hF M z => gJ2_add hF a0 a1 M z)

theorem cw_J2_rangeCheckForAdd : CWm yJ2_rangeCheckForAdd cJ2_rangeCheckForAdd 2 (Option.none : Option Jvm.ClassFile.FieldType) 1 := ⟨q757, q62, by decide +kernel, by decide +kernel, by decide +kernel⟩
def fJ2_add_3_J38 (l0 : Option Nat) (l1 : Int32) (l2 : Option Nat) (l3 : Int32) (l4 : Option Nat) (M : Mp) (z : Nat) : Rs Unit := (ac M l4 l1 l4 (l1 + (1 : Int32)) (l3 - l1)).bind fun M1 =>
(sr M1 2 l4 l1 l2).bind fun M2 =>
(pu M2 l0 [11] 2 (.int (l3 + (1 : Int32)))).bind fun M3 =>
some ((), M3, 0, 0)

theorem gJ2_add_3_J38 {G : Cx} {F : Option Value × Mp × Nat} (hF : FX G cJ2_add_3 5 RJ2 (Option.none : Option Jvm.ClassFile.FieldType) "add" 9 264) (l0 : Option Nat) (l1 : Int32) (l2 : Option Nat) (l3 : Int32) (l4 : Option Nat) (M : Mp) (z : Nat) : SK G F 5 eV 38 [some (va_rf l0), some (.int l1), some (va_rf l2), some (.int l3), some (va_rf l4)] [] M z (fJ2_add_3_J38 l0 l1 l2 l3 l4 M z) := by
  unfold fJ2_add_3_J38
  refine s_aload (pc := 38) hF dJ2_add_3_38 rfl ?_
  refine s_iload_n (pc := 40) hF dJ2_add_3_40 rfl rfl ?_
  refine s_aload (pc := 41) hF dJ2_add_3_41 rfl ?_
  refine s_iload_n (pc := 43) hF dJ2_add_3_43 rfl rfl ?_
  refine s_iconst (pc := 44) hF dJ2_add_3_44 (1 : Int32) (by decide) ?_
  refine s_iadd (pc := 45) hF dJ2_add_3_45 ?_
  refine s_iload_n (pc := 46) hF dJ2_add_3_46 rfl rfl ?_
  refine s_iload_n (pc := 47) hF dJ2_add_3_47 rfl rfl ?_
  refine s_isub (pc := 48) hF dJ2_add_3_48 ?_
  refine s_acopy (pc := 49) hF q592 ⟨Nat.le_of_ble_eq_true rfl, Nat.le_of_ble_eq_true rfl⟩ ⟨trivial, Nat.le_of_ble_eq_true rfl⟩ dJ2_add_3_49 (fun M1 => ?_)
  refine s_aload (pc := 52) hF dJ2_add_3_52 rfl ?_
  refine s_iload_n (pc := 54) hF dJ2_add_3_54 rfl rfl ?_
  refine s_aload_n (pc := 55) hF dJ2_add_3_55 rfl rfl ?_
  refine s_aast (pc := 56) 2 (by decide) hF dJ2_add_3_56 (fun M2 => ?_)
  refine s_aload_n (pc := 57) hF dJ2_add_3_57 rfl rfl ?_
  refine s_iload_n (pc := 58) hF dJ2_add_3_58 rfl rfl ?_
  refine s_iconst (pc := 59) hF dJ2_add_3_59 (1 : Int32) (by decide) ?_
  refine s_iadd (pc := 60) hF dJ2_add_3_60 ?_
  refine s_put (pc := 61) hF (pl_J2_48 hF _) dJ2_add_3_61 (fun M3 => ?_)
  exact s_vret (pc := 64) hF dJ2_add_3_64
def fJ2_add_3 (a0 : Option Nat) (a1 : Int32) (a2 : Option Nat) (M : Mp) (z : Nat) : Rs Unit := if ckc M a0 [11] = true then
  (cb (fJ2_rangeCheckForAdd a0 a1 M z) z fun _ M2 z3 =>
(gi M2 a0 [11] 0).bind fun v4 =>
(pu M2 a0 [11] 0 (.int (v4 + (1 : Int32)))).bind fun M5 =>
(gi M5 a0 [11] 2).bind fun v6 =>
(gr M5 a0 [11] 1).bind fun v7 =>
(al M5 v7).bind fun v8 =>
if v6 = v8 then
  (if ckc M5 a0 [11] = true then
  (cb (fJ2_grow a0 M5 z3) z3 fun v9 M10 z11 =>
fJ2_add_3_J38 a0 a1 a2 v6 v9 M10 z11)
else none)
else
  (fJ2_add_3_J38 a0 a1 a2 v6 v7 M5 z3))
else none
theorem gJ2_add_3 {G : Cx} {F : Option Value × Mp × Nat} (hF : FX G cJ2_add_3 5 RJ2 (Option.none : Option Jvm.ClassFile.FieldType) "add" 9 264) (a0 : Option Nat) (a1 : Int32) (a2 : Option Nat) (M : Mp) (z : Nat) : SK G F 5 eV 0 [some (va_rf a0), some (.int a1), some (va_rf a2), none, none] [] M z (fJ2_add_3 a0 a1 a2 M z) := by
  unfold fJ2_add_3
  refine s_aload_n (pc := 0) hF dJ2_add_3_0 rfl rfl ?_
  refine s_iload_n (pc := 1) hF dJ2_add_3_1 rfl rfl ?_
  refine s_callV (pc := 2) (As := [.int a1]) (st := []) (stf := fun r9 => []) hF (mJ2_rangeCheckForAdd a0 a1) cw_J2_rangeCheckForAdd q754 q756 (List.forall_mem_cons.mpr ⟨⟨(RJ2, TJ2, 3), rfl, qs11⟩, fun _ h9 => absurd h9 List.not_mem_nil⟩) rfl ⟨Nat.le_of_ble_eq_true rfl, Nat.le_of_ble_eq_true rfl⟩ ⟨trivial, Nat.le_of_ble_eq_true rfl⟩ dJ2_add_3_2 rfl (fun _ => rfl) (fun v1 M2 z3 => ?_)
  refine s_aload_n (pc := 5) hF dJ2_add_3_5 rfl rfl ?_
  refine s_dup (pc := 6) hF dJ2_add_3_6 (ct _) ?_
  refine s_geti (pc := 7) hF (fl_J2_63 hF) dJ2_add_3_7 (fun v4 => ?_)
  refine s_iconst (pc := 10) hF dJ2_add_3_10 (1 : Int32) (by decide) ?_
  refine s_iadd (pc := 11) hF dJ2_add_3_11 ?_
  refine s_put (pc := 12) hF (pl_J2_63 hF _) dJ2_add_3_12 (fun M5 => ?_)
  refine s_aload_n (pc := 15) hF dJ2_add_3_15 rfl rfl ?_
  refine s_geti (pc := 16) hF (fl_J2_48 hF) dJ2_add_3_16 (fun v6 => ?_)
  refine s_dup (pc := 19) hF dJ2_add_3_19 rfl ?_
  refine s_istore_n (L9 := [some (va_rf a0), some (.int a1), some (va_rf a2), some (.int v6), none]) (pc := 20) hF dJ2_add_3_20 rfl (Nat.le_of_ble_eq_true rfl) rfl ?_
  refine s_aload_n (pc := 21) hF dJ2_add_3_21 rfl rfl ?_
  refine s_getr (pc := 22) hF (fl_J2_9 hF) dJ2_add_3_22 (fun v7 => ?_)
  refine s_dup (pc := 25) hF dJ2_add_3_25 (ct _) ?_
  refine s_astore (L9 := [some (va_rf a0), some (.int a1), some (va_rf a2), some (.int v6), some (va_rf v7)]) (pc := 26) hF dJ2_add_3_26 (Nat.le_of_ble_eq_true rfl) rfl ?_
  refine s_alen (pc := 28) hF dJ2_add_3_28 (fun v8 => ?_)
  refine s_icmp_ne (pc := 29) hF 38 dJ2_add_3_29 rfl ?_ ?_
  · exact SK.sb (gJ2_add_3_J38 hF a0 a1 a2 v6 v7 M5 z3) ⟨rfl, ⟨rfl, ⟨rfl, ⟨rfl, ⟨rfl, trivial⟩⟩⟩⟩⟩
  · refine s_aload_n (pc := 32) hF dJ2_add_3_32 rfl rfl ?_
    refine s_callV (pc := 33) (As := []) (st := []) (stf := fun r9 => va_rf r9 :: []) hF (mJ2_grow a0) cw_J2_grow q458 q460 (List.forall_mem_cons.mpr ⟨⟨(RJ2, TJ2, 3), rfl, qs2⟩, fun _ h9 => absurd h9 List.not_mem_nil⟩) rfl ⟨Nat.le_of_ble_eq_true rfl, Nat.le_of_ble_eq_true rfl⟩ ⟨trivial, Nat.le_of_ble_eq_true rfl⟩ dJ2_add_3_33 rfl (fun _ => rfl) (fun v9 M10 z11 => ?_)
    refine s_astore (L9 := [some (va_rf a0), some (.int a1), some (va_rf a2), some (.int v6), some (va_rf v9)]) (pc := 36) hF dJ2_add_3_36 (Nat.le_of_ble_eq_true rfl) rfl ?_
    exact SK.sb (gJ2_add_3_J38 hF a0 a1 a2 v6 v9 M10 z11) ⟨rfl, ⟨rfl, ⟨rfl, ⟨rfl, ⟨rfl, trivial⟩⟩⟩⟩⟩
theorem mJ2_add_3 (a0 : Option Nat) (a1 : Int32) (a2 : Option Nat) : MT yJ2_add_3 cJ2_add_3 5 (Option.none : Option Jvm.ClassFile.FieldType) 9 264 eV [va_rf a0, .int a1, va_rf a2] (fJ2_add_3 a0 a1 a2) :=
  MT.of (L0 := [some (va_rf a0), some (.int a1), some (va_rf a2), none, none]) (by decide) ⟨ct _, ⟨rfl, ⟨ct _, trivial⟩⟩⟩ (Nat.le_of_ble_eq_true rfl) rfl (fun _ _ hF M z => gJ2_add_3 hF a0 a1 a2 M z)
