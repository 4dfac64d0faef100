set_option maxRecDepth 100000
def fJ0_init (a0 : Option Nat) (M : Mp) (z : Nat) : Rs Unit := if a0 = none then none else
  (some ((), M, 0, 0))
theorem gJ0_init {G : Cx} {F : Option Value × Mp × Nat} (hF : FX G cJ0_init 1 RJ0 (Option.none : Option Jvm.ClassFile.FieldType) "<init>" 1 20) (a0 : Option Nat) (M : Mp) (z : Nat) : SK G F 1 eV 0 [some (va_rf a0)] [] M z (fJ0_init a0 M z) := by
  unfold fJ0_init
  refine s_aload_n (pc := 0) hF dJ0_init_0 rfl rfl ?_
  refine s_oinit (pc := 1) hF q99 ⟨Nat.le_of_ble_eq_true rfl, Nat.le_of_ble_eq_true rfl⟩ ⟨trivial, Nat.le_of_ble_eq_true rfl⟩ dJ0_init_1 ?_
  exact s_vret (pc := 4) hF dJ0_init_4
theorem mJ0_init (a0 : Option Nat) : MT yJ0_init cJ0_init 1 (Option.none : Option Jvm.ClassFile.FieldType) 1 20 eV [va_rf a0] (fJ0_init a0) :=
  MT.of (L0 := [some (va_rf a0)]) (by decide) ⟨ct _, trivial⟩ (Nat.le_of_ble_eq_true rfl) rfl (fun _ _ hF M z => gJ0_init hF a0 M z)

theorem pl_J1_7 {G : Cx} {nL fr lc : Nat} {cc : ByteArray} {ret : Option FieldType} {nm : String} (hF : FX G cc nL RJ1 ret nm fr lc) (x9 : Int32) : ∀ c ∈ [11], PF G RJ1 nm 7 c 0 (.int x9) := by
  obtain ⟨⟨p, l, e, R, s, m, args, below, meth, c0⟩, A, D, dA, mi⟩ := G
  obtain ⟨hx, hb, hml, hown, hts, hr, hlk, hK, hnm, hfr, hlc⟩ := hF
  exact List.forall_mem_cons.mpr ⟨⟨RJ2, TJ2, 3, "java/util/AbstractList", tyJ2 0, rfl, in_J2, Nat.le_of_ble_eq_true rfl, Or.inl ⟨(hts _ q108), Or.inl rfl⟩, fun _ h => h, tyJ2_ok 0 (Nat.le_of_ble_eq_true rfl), rfl, rfl, ap_11 hts hK⟩, fun _ h9 => absurd h9 List.not_mem_nil⟩
theorem cw_J0_init : CWm yJ0_init cJ0_init 1 (Option.none : Option Jvm.ClassFile.FieldType) 0 := ⟨q98, q60, by decide +kernel, by decide +kernel, by decide +kernel⟩
def fJ1_init (a0 : Option Nat) (M : Mp) (z : Nat) : Rs Unit := if a0 = none then none else
  (cb (fJ0_init a0 M z) z fun _ M2 z3 =>
(pu M2 a0 [11] 0 (.int (0 : Int32))).bind fun M4 =>
some ((), M4, 0, 0))
theorem gJ1_init {G : Cx} {F : Option Value × Mp × Nat} (hF : FX G cJ1_init 1 RJ1 (Option.none : Option Jvm.ClassFile.FieldType) "<init>" 2 40) (a0 : Option Nat) (M : Mp) (z : Nat) : SK G F 1 eV 0 [some (va_rf a0)] [] M z (fJ1_init a0 M z) := by
  unfold fJ1_init
  refine s_aload_n (pc := 0) hF dJ1_init_0 rfl rfl ?_
  refine s_callJ (pc := 1) (As := []) (st := []) (stf := fun r9 => []) hF (mJ0_init a0) cw_J0_init q96 q97 rfl rfl ⟨Nat.le_of_ble_eq_true rfl, Nat.le_of_ble_eq_true rfl⟩ ⟨trivial, Nat.le_of_ble_eq_true rfl⟩ dJ1_init_1 rfl (fun _ => rfl) (fun v1 M2 z3 => ?_)
  refine s_aload_n (pc := 4) hF dJ1_init_4 rfl rfl ?_
  refine s_iconst (pc := 5) hF dJ1_init_5 (0 : Int32) (by decide) ?_
  refine s_put (pc := 6) hF (pl_J1_7 hF _) dJ1_init_6 (fun M4 => ?_)
  exact s_vret (pc := 9) hF dJ1_init_9
theorem mJ1_init (a0 : Option Nat) : MT yJ1_init cJ1_init 1 (Option.none : Option Jvm.ClassFile.FieldType) 2 40 eV [va_rf a0] (fJ1_init a0) :=
  MT.of (L0 := [some (va_rf a0)]) (by decide) ⟨ct _, trivial⟩ (Nat.le_of_ble_eq_true rfl) rfl (fun _ _ hF M z => gJ1_init hF a0 M z)

theorem pl_J2_9 {G : Cx} {nL fr lc : Nat} {cc : ByteArray} {ret : Option FieldType} {nm : String} (hF : FX G cc nL RJ2 ret nm fr lc) (x9 : Option Nat) : ∀ c ∈ [11], PF G RJ2 nm 9 c 1 (va_rf x9) := by
  obtain ⟨⟨p, l, e, R, s, m, args, below, meth, c0⟩, A, D, dA, mi⟩ := G
  obtain ⟨hx, hb, hml, hown, hts, hr, hlk, hK, hnm, hfr, hlc⟩ := hF
  exact List.forall_mem_cons.mpr ⟨⟨RJ2, TJ2, 3, "java/util/ArrayList", tyJ2 1, rfl, in_J2, Nat.le_of_ble_eq_true rfl, Or.inl ⟨(hts _ q104), Or.inl rfl⟩, fun _ h => h, tyJ2_ok 1 (Nat.le_of_ble_eq_true rfl), by cases x9 <;> rfl, by cases x9 <;> rfl, ap_11 hts hK⟩, fun _ h9 => absurd h9 List.not_mem_nil⟩
theorem cw_J1_init : CWm yJ1_init cJ1_init 1 (Option.none : Option Jvm.ClassFile.FieldType) 0 := ⟨q95, q61, by decide +kernel, by decide +kernel, by decide +kernel⟩
def fJ2_init (a0 : Option Nat) (a1 : Int32) (M : Mp) (z : Nat) : Rs Unit := if a0 = none then none else
  (cb (fJ1_init a0 M z) z fun _ M2 z3 =>
if 0 < a1 then
  (nwq 2 a1 M2 z3 fun M4 z5 =>
(pu M4 a0 [11] 1 (va_rf (some z3))).bind fun M6 =>
some ((), M6, 0, 0))
else
  (none))
theorem gJ2_init {G : Cx} {F : Option Value × Mp × Nat} (hF : FX G cJ2_init 2 RJ2 (Option.none : Option Jvm.ClassFile.FieldType) "<init>" 3 60) (a0 : Option Nat) (a1 : Int32) (M : Mp) (z : Nat) : SK G F 2 eV 0 [some (va_rf a0), some (.int a1)] [] M z (fJ2_init a0 a1 M z) := by
  unfold fJ2_init
  refine s_aload_n (pc := 0) hF dJ2_init_0 rfl rfl ?_
  refine s_callJ (pc := 1) (As := []) (st := []) (stf := fun r9 => []) hF (mJ1_init a0) cw_J1_init q93 q94 rfl rfl ⟨Nat.le_of_ble_eq_true rfl, Nat.le_of_ble_eq_true rfl⟩ ⟨trivial, Nat.le_of_ble_eq_true rfl⟩ dJ2_init_1 rfl (fun _ => rfl) (fun v1 M2 z3 => ?_)
  refine s_iload_n (pc := 4) hF dJ2_init_4 rfl rfl ?_
  refine s_if_le (pc := 5) hF 19 dJ2_init_5 rfl ?_ ?_
  · exact SK.fail
  · refine s_aload_n (pc := 8) hF dJ2_init_8 rfl rfl ?_
    refine s_iload_n (pc := 9) hF dJ2_init_9 rfl rfl ?_
    refine s_nwq (pc := 10) hF 2 "java/lang/Object" dJ2_init_10 (by decide) q100 (fun M4 z5 => ?_)
    refine s_put (pc := 13) hF (pl_J2_9 hF _) dJ2_init_13 (fun M6 => ?_)
    refine s_goto (pc := 16) hF 60 dJ2_init_16 rfl ?_
    exact s_vret (pc := 60) hF dJ2_init_60
theorem mJ2_init (a0 : Option Nat) (a1 : Int32) : MT yJ2_init cJ2_init 2 (Option.none : Option Jvm.ClassFile.FieldType) 3 60 eV [va_rf a0, .int a1] (fJ2_init a0 a1) :=
  MT.of (L0 := [some (va_rf a0), some (.int a1)]) (by decide) ⟨ct _, ⟨rfl, trivial⟩⟩ (Nat.le_of_ble_eq_true rfl) rfl (fun _ _ hF M z => gJ2_init hF a0 a1 M z)

theorem fl_J2_48 {G : Cx} {nL fr lc : Nat} {cc : ByteArray} {ret : Option FieldType} {nm : String} (hF : FX G cc nL RJ2 ret nm fr lc) : ∀ c ∈ [11], GF G RJ2 48 c 2 := by
  obtain ⟨⟨p, l, e, R, s, m, args, below, meth, c0⟩, A, D, dA, mi⟩ := G
  obtain ⟨hx, hb, hml, hown, hts, hr, hlk, hK, hnm, hfr, hlc⟩ := hF
  exact List.forall_mem_cons.mpr ⟨⟨RJ2, TJ2, 3, "java/util/ArrayList", rfl, in_J2, Nat.le_of_ble_eq_true rfl, Or.inl (hts _ q107), fun _ h => h⟩, fun _ h9 => absurd h9 List.not_mem_nil⟩
def fJ2_size (a0 : Option Nat) (M : Mp) (z : Nat) : Rs Int32 := (gi M a0 [11] 2).bind fun v1 =>
some (v1, M, 0, 0)
theorem gJ2_size {G : Cx} {F : Option Value × Mp × Nat} (hF : FX G cJ2_size 1 RJ2 (Option.some Jvm.ClassFile.FieldType.int) "size" 0 0) (a0 : Option Nat) (M : Mp) (z : Nat) : SK G F 1 eI 0 [some (va_rf a0)] [] M z (fJ2_size a0 M z) := by
  unfold fJ2_size
  refine s_aload_n (pc := 0) hF dJ2_size_0 rfl rfl ?_
  refine s_geti (pc := 1) hF (fl_J2_48 hF) dJ2_size_1 (fun v1 => ?_)
  exact s_iret (pc := 4) hF dJ2_size_4
theorem mJ2_size (a0 : Option Nat) : MT yJ2_size cJ2_size 1 (Option.some Jvm.ClassFile.FieldType.int) 0 0 eI [va_rf a0] (fJ2_size a0) :=
  MT.of (L0 := [some (va_rf a0)]) (by decide) ⟨ct _, trivial⟩ (Nat.le_of_ble_eq_true rfl) rfl (fun _ _ hF M z => gJ2_size hF a0 M z)

theorem pl_J3_1 {G : Cx} {nL fr lc : Nat} {cc : ByteArray} {ret : Option FieldType} (hF : FX G cc nL RJ3 ret "<init>" fr lc) (x9 : Option Nat) : ∀ c ∈ [12], PF G RJ3 "<init>" 1 c 3 (va_rf x9) := by
  obtain ⟨⟨p, l, e, R, s, m, args, below, meth, c0⟩, A, D, dA, mi⟩ := G
  obtain ⟨hx, hb, hml, hown, hts, hr, hlk, hK, hnm, hfr, hlc⟩ := hF
  exact List.forall_mem_cons.mpr ⟨⟨RJ3, TJ3, 4, "java/util/ArrayList$Itr", tyJ3 3, rfl, in_J3, Nat.le_of_ble_eq_true rfl, Or.inl ⟨(hts _ q287), Or.inr ⟨rfl, rfl, rfl⟩⟩, fun _ h => h, tyJ3_ok 3 (Nat.le_of_ble_eq_true rfl), by cases x9 <;> rfl, by cases x9 <;> rfl, ap_12 hts hK⟩, fun _ h9 => absurd h9 List.not_mem_nil⟩
theorem pl_J3_13 {G : Cx} {nL fr lc : Nat} {cc : ByteArray} {ret : Option FieldType} {nm : String} (hF : FX G cc nL RJ3 ret nm fr lc) (x9 : Int32) : ∀ c ∈ [12], PF G RJ3 nm 13 c 1 (.int x9) := by
  obtain ⟨⟨p, l, e, R, s, m, args, below, meth, c0⟩, A, D, dA, mi⟩ := G
  obtain ⟨hx, hb, hml, hown, hts, hr, hlk, hK, hnm, hfr, hlc⟩ := hF
  exact List.forall_mem_cons.mpr ⟨⟨RJ3, TJ3, 4, "java/util/ArrayList$Itr", tyJ3 1, rfl, in_J3, Nat.le_of_ble_eq_true rfl, Or.inl ⟨(hts _ q285), Or.inl rfl⟩, fun _ h => h, tyJ3_ok 1 (Nat.le_of_ble_eq_true rfl), rfl, rfl, ap_12 hts hK⟩, fun _ h9 => absurd h9 List.not_mem_nil⟩
theorem fl_J3_1 {G : Cx} {nL fr lc : Nat} {cc : ByteArray} {ret : Option FieldType} {nm : String} (hF : FX G cc nL RJ3 ret nm fr lc) : ∀ c ∈ [12], GF G RJ3 1 c 3 := by
  obtain ⟨⟨p, l, e, R, s, m, args, below, meth, c0⟩, A, D, dA, mi⟩ := G
  obtain ⟨hx, hb, hml, hown, hts, hr, hlk, hK, hnm, hfr, hlc⟩ := hF
  exact List.forall_mem_cons.mpr ⟨⟨RJ3, TJ3, 4, "java/util/ArrayList$Itr", rfl, in_J3, Nat.le_of_ble_eq_true rfl, Or.inl (hts _ q287), fun _ h => h⟩, fun _ h9 => absurd h9 List.not_mem_nil⟩
theorem fl_J3_17 {G : Cx} {nL fr lc : Nat} {cc : ByteArray} {ret : Option FieldType} {nm : String} (hF : FX G cc nL RJ3 ret nm fr lc) : ∀ c ∈ [11], GF G RJ3 17 c 0 := by
  obtain ⟨⟨p, l, e, R, s, m, args, below, meth, c0⟩, A, D, dA, mi⟩ := G
  obtain ⟨hx, hb, hml, hown, hts, hr, hlk, hK, hnm, hfr, hlc⟩ := hF
  exact List.forall_mem_cons.mpr ⟨⟨RJ2, TJ2, 3, "java/util/ArrayList", rfl, in_J2, Nat.le_of_ble_eq_true rfl, Or.inl (hts _ q109), u_same (hts _ q110)⟩, fun _ h9 => absurd h9 List.not_mem_nil⟩
theorem pl_J3_22 {G : Cx} {nL fr lc : Nat} {cc : ByteArray} {ret : Option FieldType} {nm : String} (hF : FX G cc nL RJ3 ret nm fr lc) (x9 : Int32) : ∀ c ∈ [12], PF G RJ3 nm 22 c 2 (.int x9) := by
  obtain ⟨⟨p, l, e, R, s, m, args, below, meth, c0⟩, A, D, dA, mi⟩ := G
  obtain ⟨hx, hb, hml, hown, hts, hr, hlk, hK, hnm, hfr, hlc⟩ := hF
  exact List.forall_mem_cons.mpr ⟨⟨RJ3, TJ3, 4, "java/util/ArrayList$Itr", tyJ3 2, rfl, in_J3, Nat.le_of_ble_eq_true rfl, Or.inl ⟨(hts _ q286), Or.inl rfl⟩, fun _ h => h, tyJ3_ok 2 (Nat.le_of_ble_eq_true rfl), rfl, rfl, ap_12 hts hK⟩, fun _ h9 => absurd h9 List.not_mem_nil⟩
def fJ3_init (a0 : Option Nat) (a1 : Option Nat) (M : Mp) (z : Nat) : Rs Unit := (pu M a0 [12] 3 (va_rf a1)).bind fun M1 =>
if a0 = none then none else
  ((pu M1 a0 [12] 1 (.int (-1 : Int32))).bind fun M2 =>
(gr M2 a0 [12] 3).bind fun v3 =>
(gi M2 v3 [11] 0).bind fun v4 =>
(pu M2 a0 [12] 2 (.int v4)).bind fun M5 =>
some ((), M5, 0, 0))
theorem gJ3_init {G : Cx} {F : Option Value × Mp × Nat} (hF : FX G cJ3_init 2 RJ3 (Option.none : Option Jvm.ClassFile.FieldType) "<init>" 1 20) (a0 : Option Nat) (a1 : Option Nat) (M : Mp) (z : Nat) : SK G F 2 eV 0 [some (va_rf a0), some (va_rf a1)] [] M z (fJ3_init a0 a1 M z) := by
  unfold fJ3_init
  refine s_aload_n (pc := 0) hF dJ3_init_0 rfl rfl ?_
  refine s_aload_n (pc := 1) hF dJ3_init_1 rfl rfl ?_
  refine s_put (pc := 2) hF (pl_J3_1 hF _) dJ3_init_2 (fun M1 => ?_)
  refine s_aload_n (pc := 5) hF dJ3_init_5 rfl rfl ?_
  refine s_oinit (pc := 6) hF q283 ⟨Nat.le_of_ble_eq_true rfl, Nat.le_of_ble_eq_true rfl⟩ ⟨trivial, Nat.le_of_ble_eq_true rfl⟩ dJ3_init_6 ?_
  refine s_aload_n (pc := 9) hF dJ3_init_9 rfl rfl ?_
  refine s_iconst (pc := 10) hF dJ3_init_10 (-1 : Int32) (by decide) ?_
  refine s_put (pc := 11) hF (pl_J3_13 hF _) dJ3_init_11 (fun M2 => ?_)
  refine s_aload_n (pc := 14) hF dJ3_init_14 rfl rfl ?_
  refine s_aload_n (pc := 15) hF dJ3_init_15 rfl rfl ?_
  refine s_getr (pc := 16) hF (fl_J3_1 hF) dJ3_init_16 (fun v3 => ?_)
  refine s_geti (pc := 19) hF (fl_J3_17 hF) dJ3_init_19 (fun v4 => ?_)
  refine s_put (pc := 22) hF (pl_J3_22 hF _) dJ3_init_22 (fun M5 => ?_)
  exact s_vret (pc := 25) hF dJ3_init_25
theorem mJ3_init (a0 : Option Nat) (a1 : Option Nat) : MT yJ3_init cJ3_init 2 (Option.none : Option Jvm.ClassFile.FieldType) 1 20 eV [va_rf a0, va_rf a1] (fJ3_init a0 a1) :=
  MT.of (L0 := [some (va_rf a0), some (va_rf a1)]) (by decide) ⟨ct _, ⟨ct _, trivial⟩⟩ (Nat.le_of_ble_eq_true rfl) rfl (fun _ _ hF M z => gJ3_init hF a0 a1 M z)

theorem cw_J3_init : CWm yJ3_init cJ3_init 2 (Option.none : Option Jvm.ClassFile.FieldType) 1 := ⟨q282, q66, by decide +kernel, by decide +kernel, by decide +kernel⟩
def fJ2_iterator (a0 : Option Nat) (M : Mp) (z : Nat) : Rs (Option Nat) := nwo 12 4 [.int 0, .int 0, .int 0, .null] M z fun M1 z2 =>
if (some z) = none then none else
  (cb (fJ3_init (some z) a0 M1 z2) z2 fun _ M4 z5 =>
some ((some z), M4, 0, 0))
theorem gJ2_iterator {G : Cx} {F : Option Value × Mp × Nat} (hF : FX G cJ2_iterator 1 RJ2 (Option.some (Jvm.ClassFile.FieldType.object "java/util/Iterator")) "iterator" 2 41) (a0 : Option Nat) (M : Mp) (z : Nat) : SK G F 1 eR 0 [some (va_rf a0)] [] M z (fJ2_iterator a0 M z) := by
  unfold fJ2_iterator
  refine s_nwo (pc := 0) hF dJ2_iterator_0 rfl in_J3 tyJ3 tyJ3_ok q278 q279 q66 (fun j hj => by rcases (show j = 0 ∨ j = 1 ∨ j = 2 ∨ j = 3 by omega) with rfl | rfl | rfl | rfl <;> rfl) (fun M1 z2 => ?_)
  refine s_dup (pc := 3) hF dJ2_iterator_3 (ct _) ?_
  refine s_aload_n (pc := 4) hF dJ2_iterator_4 rfl rfl ?_
  refine s_callJ (pc := 5) (As := [va_rf a0]) (st := [va_rf (some z)]) (stf := fun r9 => [va_rf (some z)]) hF (mJ3_init (some z) a0) cw_J3_init q280 q281 rfl rfl ⟨Nat.le_of_ble_eq_true rfl, Nat.le_of_ble_eq_true rfl⟩ ⟨⟨ct _, trivial⟩, Nat.le_of_ble_eq_true rfl⟩ dJ2_iterator_5 rfl (fun _ => rfl) (fun v3 M4 z5 => ?_)
  exact s_aret (pc := 8) hF rfl (Or.inl ⟨_, rfl⟩) dJ2_iterator_8
theorem mJ2_iterator (a0 : Option Nat) : MT yJ2_iterator cJ2_iterator 1 (Option.some (Jvm.ClassFile.FieldType.object "java/util/Iterator")) 2 41 eR [va_rf a0] (fJ2_iterator a0) :=
  MT.of (L0 := [some (va_rf a0)]) (by decide) ⟨ct _, trivial⟩ (Nat.le_of_ble_eq_true rfl) rfl (fun _ _ hF M z => gJ2_iterator hF a0 M z)

def fJ5_checkIndex (a0 : Int32) (a1 : Int32) (a2 : Option Nat) (M : Mp) (z : Nat) : Rs Int32 := if a0 < 0 then
  (none)
else
  (if a0 < a1 then
  (some (a0, M, 0, 0))
else
  (none))
theorem gJ5_checkIndex {G : Cx} {F : Option Value × Mp × Nat} (hF : FX G cJ5_checkIndex 3 RJ5 (Option.some Jvm.ClassFile.FieldType.int) "checkIndex" 0 0) (a0 : Int32) (a1 : Int32) (a2 : Option Nat) (M : Mp) (z : Nat) : SK G F 3 eI 0 [some (.int a0), some (.int a1), some (va_rf a2)] [] M z (fJ5_checkIndex a0 a1 a2 M z) := by
  unfold fJ5_checkIndex
  refine s_iload_n (pc := 0) hF dJ5_checkIndex_0 rfl rfl ?_
  refine s_if_lt (pc := 1) hF 9 dJ5_checkIndex_1 rfl ?_ ?_
  · exact SK.fail
  · refine s_iload_n (pc := 4) hF dJ5_checkIndex_4 rfl rfl ?_
    refine s_iload_n (pc := 5) hF dJ5_checkIndex_5 rfl rfl ?_
    refine s_icmp_lt (pc := 6) hF 16 dJ5_checkIndex_6 rfl ?_ ?_
    · refine s_iload_n (pc := 16) hF dJ5_checkIndex_16 rfl rfl ?_
      exact s_iret (pc := 17) hF dJ5_checkIndex_17
    · exact SK.fail
theorem mJ5_checkIndex (a0 : Int32) (a1 : Int32) (a2 : Option Nat) : MT yJ5_checkIndex cJ5_checkIndex 3 (Option.some Jvm.ClassFile.FieldType.int) 0 0 eI [.int a0, .int a1, va_rf a2] (fJ5_checkIndex a0 a1 a2) :=
  MT.of (L0 := [some (.int a0), some (.int a1), some (va_rf a2)]) (by decide) ⟨rfl, ⟨rfl, ⟨ct _, trivial⟩⟩⟩ (Nat.le_of_ble_eq_true rfl) rfl (fun _ _ hF M z => gJ5_checkIndex hF a0 a1 a2 M z)

theorem cw_J5_checkIndex : CWm yJ5_checkIndex cJ5_checkIndex 3 (Option.some Jvm.ClassFile.FieldType.int) 3 := ⟨q364, q68, by decide +kernel, by decide +kernel, by decide +kernel⟩
def fJ4_checkIndex (a0 : Int32) (a1 : Int32) (M : Mp) (z : Nat) : Rs Int32 := cb (fJ5_checkIndex a0 a1 none M z) z fun v1 M2 z3 =>
some (v1, M2, 0, 0)
theorem gJ4_checkIndex {G : Cx} {F : Option Value × Mp × Nat} (hF : FX G cJ4_checkIndex 2 RJ4 (Option.some Jvm.ClassFile.FieldType.int) "checkIndex" 1 22) (a0 : Int32) (a1 : Int32) (M : Mp) (z : Nat) : SK G F 2 eI 0 [some (.int a0), some (.int a1)] [] M z (fJ4_checkIndex a0 a1 M z) := by
  unfold fJ4_checkIndex
  refine s_iload_n (pc := 0) hF dJ4_checkIndex_0 rfl rfl ?_
  refine s_iload_n (pc := 1) hF dJ4_checkIndex_1 rfl rfl ?_
  refine s_null (pc := 2) hF dJ4_checkIndex_2 ?_
  refine s_callS (pc := 3) (As := [.int a0, .int a1, va_rf none]) (st := []) (stf := fun r9 => .int r9 :: []) hF (mJ5_checkIndex a0 a1 none) cw_J5_checkIndex q362 q363 rfl ⟨Nat.le_of_ble_eq_true rfl, Nat.le_of_ble_eq_true rfl⟩ ⟨trivial, Nat.le_of_ble_eq_true rfl⟩ dJ4_checkIndex_3 rfl (fun _ => rfl) (fun v1 M2 z3 => ?_)
  exact s_iret (pc := 6) hF dJ4_checkIndex_6
theorem mJ4_checkIndex (a0 : Int32) (a1 : Int32) : MT yJ4_checkIndex cJ4_checkIndex 2 (Option.some Jvm.ClassFile.FieldType.int) 1 22 eI [.int a0, .int a1] (fJ4_checkIndex a0 a1) :=
  MT.of (L0 := [some (.int a0), some (.int a1)]) (by decide) ⟨rfl, ⟨rfl, trivial⟩⟩ (Nat.le_of_ble_eq_true rfl) rfl (fun _ _ hF M z => gJ4_checkIndex hF a0 a1 M z)

theorem fl_J2_9 {G : Cx} {nL fr lc : Nat} {cc : ByteArray} {ret : Option FieldType} {nm : String} (hF : FX G cc nL RJ2 ret nm fr lc) : ∀ c ∈ [11], GF G RJ2 9 c 1 := by
  obtain ⟨⟨p, l, e, R, s, m, args, below, meth, c0⟩, A, D, dA, mi⟩ := G
  obtain ⟨hx, hb, hml, hown, hts, hr, hlk, hK, hnm, hfr, hlc⟩ := hF
  exact List.forall_mem_cons.mpr ⟨⟨RJ2, TJ2, 3, "java/util/ArrayList", rfl, in_J2, Nat.le_of_ble_eq_true rfl, Or.inl (hts _ q104), fun _ h => h⟩, fun _ h9 => absurd h9 List.not_mem_nil⟩
def fJ2_elementData (a0 : Option Nat) (a1 : Int32) (M : Mp) (z : Nat) : Rs (Option Nat) := (gr M a0 [11] 1).bind fun v1 =>
(ar M 2 v1 a1).bind fun v2 =>
some (v2, M, 0, 0)
theorem gJ2_elementData {G : Cx} {F : Option Value × Mp × Nat} (hF : FX G cJ2_elementData 2 RJ2 (Option.some (Jvm.ClassFile.FieldType.object "java/lang/Object")) "elementData" 0 0) (a0 : Option Nat) (a1 : Int32) (M : Mp) (z : Nat) : SK G F 2 eR 0 [some (va_rf a0), some (.int a1)] [] M z (fJ2_elementData a0 a1 M z) := by
  unfold fJ2_elementData
  refine s_aload_n (pc := 0) hF dJ2_elementData_0 rfl rfl ?_
  refine s_getr (pc := 1) hF (fl_J2_9 hF) dJ2_elementData_1 (fun v1 => ?_)
  refine s_iload_n (pc := 4) hF dJ2_elementData_4 rfl rfl ?_
  refine s_aald (pc := 5) 2 (by decide) hF dJ2_elementData_5 (fun v2 => ?_)
  exact s_aret (pc := 6) hF rfl (Or.inl ⟨_, rfl⟩) dJ2_elementData_6
theorem mJ2_elementData (a0 : Option Nat) (a1 : Int32) : MT yJ2_elementData cJ2_elementData 2 (Option.some (Jvm.ClassFile.FieldType.object "java/lang/Object")) 0 0 eR [va_rf a0, .int a1] (fJ2_elementData a0 a1) :=
  MT.of (L0 := [some (va_rf a0), some (.int a1)]) (by decide) ⟨ct _, ⟨rfl, trivial⟩⟩ (Nat.le_of_ble_eq_true rfl) rfl (fun _ _ hF M z => gJ2_elementData hF a0 a1 M z)

theorem cw_J2_elementData : CWm yJ2_elementData cJ2_elementData 2 (Option.some (Jvm.ClassFile.FieldType.object "java/lang/Object")) 1 := ⟨q368, q62, by decide +kernel, by decide +kernel, by decide +kernel⟩
theorem cw_J4_checkIndex : CWm yJ4_checkIndex cJ4_checkIndex 2 (Option.some Jvm.ClassFile.FieldType.int) 2 := ⟨q361, q67, by decide +kernel, by decide +kernel, by decide +kernel⟩
def fJ2_get (a0 : Option Nat) (a1 : Int32) (M : Mp) (z : Nat) : Rs (Option Nat) := (gi M a0 [11] 2).bind fun v1 =>
cb (fJ4_checkIndex a1 v1 M z) z fun v2 M3 z4 =>
if ckc M3 a0 [11] = true then
  (cb (fJ2_elementData a0 a1 M3 z4) z4 fun v5 M6 z7 =>
some (v5, M6, 0, 0))
else none
theorem gJ2_get {G : Cx} {F : Option Value × Mp × Nat} (hF : FX G cJ2_get 2 RJ2 (Option.some (Jvm.ClassFile.FieldType.object "java/lang/Object")) "get" 2 43) (a0 : Option Nat) (a1 : Int32) (M : Mp) (z : Nat) : SK G F 2 eR 0 [some (va_rf a0), some (.int a1)] [] M z (fJ2_get a0 a1 M z) := by
  unfold fJ2_get
  refine s_iload_n (pc := 0) hF dJ2_get_0 rfl rfl ?_
  refine s_aload_n (pc := 1) hF dJ2_get_1 rfl rfl ?_
  refine s_geti (pc := 2) hF (fl_J2_48 hF) dJ2_get_2 (fun v1 => ?_)
  refine s_callS (pc := 5) (As := [.int a1, .int v1]) (st := []) (stf := fun r9 => .int r9 :: []) hF (mJ4_checkIndex a1 v1) cw_J4_checkIndex q359 q360 rfl ⟨Nat.le_of_ble_eq_true rfl, Nat.le_of_ble_eq_true rfl⟩ ⟨trivial, Nat.le_of_ble_eq_true rfl⟩ dJ2_get_5 rfl (fun _ => rfl) (fun v2 M3 z4 => ?_)
  refine s_pop (pc := 8) hF dJ2_get_8 rfl ?_
  refine s_aload_n (pc := 9) hF dJ2_get_9 rfl rfl ?_
  refine s_iload_n (pc := 10) hF dJ2_get_10 rfl rfl ?_
  refine s_callV (pc := 11) (As := [.int a1]) (st := []) (stf := fun r9 => va_rf r9 :: []) hF (mJ2_elementData a0 a1) cw_J2_elementData q365 q366 (List.forall_mem_cons.mpr ⟨⟨(RJ2, TJ2, 3), rfl, q367⟩, fun _ h9 => absurd h9 List.not_mem_nil⟩) rfl ⟨Nat.le_of_ble_eq_true rfl, Nat.le_of_ble_eq_true rfl⟩ ⟨trivial, Nat.le_of_ble_eq_true rfl⟩ dJ2_get_11 rfl (fun _ => rfl) (fun v5 M6 z7 => ?_)
  exact s_aret (pc := 14) hF rfl (Or.inl ⟨_, rfl⟩) dJ2_get_14
theorem mJ2_get (a0 : Option Nat) (a1 : Int32) : MT yJ2_get cJ2_get 2 (Option.some (Jvm.ClassFile.FieldType.object "java/lang/Object")) 2 43 eR [va_rf a0, .int a1] (fJ2_get a0 a1) :=
  MT.of (L0 := [some (va_rf a0), some (.int a1)]) (by decide) ⟨ct _, ⟨rfl, trivial⟩⟩ (Nat.le_of_ble_eq_true rfl) rfl (fun _ _ hF M z => gJ2_get hF a0 a1 M z)

def fJ6_hugeLength (a0 : Int32) (a1 : Int32) (M : Mp) (z : Nat) : Rs Int32 := if (a0 + a1) < 0 then
  (none)
else
  (if (2147483639 : Int32) < (a0 + a1) then
  (some ((a0 + a1), M, 0, 0))
else
  (some ((2147483639 : Int32), M, 0, 0)))
theorem gJ6_hugeLength {G : Cx} {F : Option Value × Mp × Nat} (hF : FX G cJ6_hugeLength 3 RJ6 (Option.some Jvm.ClassFile.FieldType.int) "hugeLength" 0 0) (a0 : Int32) (a1 : Int32) (M : Mp) (z : Nat) : SK G F 3 eI 0 [some (.int a0), some (.int a1), none] [] M z (fJ6_hugeLength a0 a1 M z) := by
  unfold fJ6_hugeLength
  refine s_iload_n (pc := 0) hF dJ6_hugeLength_0 rfl rfl ?_
  refine s_iload_n (pc := 1) hF dJ6_hugeLength_1 rfl rfl ?_
  refine s_iadd (pc := 2) hF dJ6_hugeLength_2 ?_
  refine s_istore_n (L9 := [some (.int a0), some (.int a1), some (.int (a0 + a1))]) (pc := 3) hF dJ6_hugeLength_3 rfl (Nat.le_of_ble_eq_true rfl) rfl ?_
  refine s_iload_n (pc := 4) hF dJ6_hugeLength_4 rfl rfl ?_
  refine s_if_ge (pc := 5) hF 49 dJ6_hugeLength_5 rfl ?_ ?_
  · refine s_iload_n (pc := 49) hF dJ6_hugeLength_49 rfl rfl ?_
    refine s_ldc (pc := 50) hF q474 dJ6_hugeLength_50 ?_
    refine s_icmp_gt (pc := 52) hF 58 dJ6_hugeLength_52 rfl ?_ ?_
    · refine s_iload_n (pc := 58) hF dJ6_hugeLength_58 rfl rfl ?_
      exact s_iret (pc := 59) hF dJ6_hugeLength_59
    · refine s_ldc (pc := 55) hF q474 dJ6_hugeLength_55 ?_
      exact s_iret (pc := 57) hF dJ6_hugeLength_57
  · exact SK.fail
theorem mJ6_hugeLength (a0 : Int32) (a1 : Int32) : MT yJ6_hugeLength cJ6_hugeLength 3 (Option.some Jvm.ClassFile.FieldType.int) 0 0 eI [.int a0, .int a1] (fJ6_hugeLength a0 a1) :=
  MT.of (L0 := [some (.int a0), some (.int a1), none]) (by decide) ⟨rfl, ⟨rfl, trivial⟩⟩ (Nat.le_of_ble_eq_true rfl) rfl (fun _ _ hF M z => gJ6_hugeLength hF a0 a1 M z)

theorem cw_J6_hugeLength : CWm yJ6_hugeLength cJ6_hugeLength 3 (Option.some Jvm.ClassFile.FieldType.int) 2 := ⟨q477, q69, by decide +kernel, by decide +kernel, by decide +kernel⟩
def fJ6_newLength_J21 (l0 : Int32) (l1 : Int32) (M : Mp) (z : Nat) : Rs Int32 := cb (fJ6_hugeLength l0 l1 M z) z fun v1 M2 z3 =>
some (v1, M2, 0, 0)

theorem gJ6_newLength_J21 {G : Cx} {F : Option Value × Mp × Nat} (hF : FX G cJ6_newLength 4 RJ6 (Option.some Jvm.ClassFile.FieldType.int) "newLength" 1 22) (l0 : Int32) (l1 : Int32) (M : Mp) (z : Nat) : SK G F 4 eI 21 [some (.int l0), some (.int l1), none, none] [] M z (fJ6_newLength_J21 l0 l1 M z) := by
  unfold fJ6_newLength_J21
  refine s_iload_n (pc := 21) hF dJ6_newLength_21 rfl rfl ?_
  refine s_iload_n (pc := 22) hF dJ6_newLength_22 rfl rfl ?_
  refine s_callS (pc := 23) (As := [.int l0, .int l1]) (st := []) (stf := fun r9 => .int r9 :: []) hF (mJ6_hugeLength l0 l1) cw_J6_hugeLength q475 q476 rfl ⟨Nat.le_of_ble_eq_true rfl, Nat.le_of_ble_eq_true rfl⟩ ⟨trivial, Nat.le_of_ble_eq_true rfl⟩ dJ6_newLength_23 rfl (fun _ => rfl) (fun v1 M2 z3 => ?_)
  exact s_iret (pc := 26) hF dJ6_newLength_26
def fJ6_newLength (a0 : Int32) (a1 : Int32) (a2 : Int32) (M : Mp) (z : Nat) : Rs Int32 := if (0 : Int32) < (a0 + (mx a1 a2)) then
  (if (2147483639 : Int32) < (a0 + (mx a1 a2)) then
  (fJ6_newLength_J21 a0 a1 M z)
else
  (some ((a0 + (mx a1 a2)), M, 0, 0)))
else
  (fJ6_newLength_J21 a0 a1 M z)
theorem gJ6_newLength {G : Cx} {F : Option Value × Mp × Nat} (hF : FX G cJ6_newLength 4 RJ6 (Option.some Jvm.ClassFile.FieldType.int) "newLength" 1 22) (a0 : Int32) (a1 : Int32) (a2 : Int32) (M : Mp) (z : Nat) : SK G F 4 eI 0 [some (.int a0), some (.int a1), some (.int a2), none] [] M z (fJ6_newLength a0 a1 a2 M z) := by
  unfold fJ6_newLength
  refine s_iload_n (pc := 0) hF dJ6_newLength_0 rfl rfl ?_
  refine s_iload_n (pc := 1) hF dJ6_newLength_1 rfl rfl ?_
  refine s_iload_n (pc := 2) hF dJ6_newLength_2 rfl rfl ?_
  refine s_max (pc := 3) hF q471 ⟨Nat.le_of_ble_eq_true rfl, Nat.le_of_ble_eq_true rfl⟩ ⟨⟨rfl, trivial⟩, Nat.le_of_ble_eq_true rfl⟩ dJ6_newLength_3 ?_
  refine s_iadd (pc := 6) hF dJ6_newLength_6 ?_
  refine s_istore_n (L9 := [some (.int a0), some (.int a1), some (.int a2), some (.int (a0 + (mx a1 a2)))]) (pc := 7) hF dJ6_newLength_7 rfl (Nat.le_of_ble_eq_true rfl) rfl ?_
  refine s_iconst (pc := 8) hF dJ6_newLength_8 (0 : Int32) (by decide) ?_
  refine s_iload_n (pc := 9) hF dJ6_newLength_9 rfl rfl ?_
  refine s_icmp_ge (pc := 10) hF 21 dJ6_newLength_10 rfl ?_ ?_
  · exact SK.sb (gJ6_newLength_J21 hF a0 a1 M z) ⟨rfl, ⟨rfl, trivial⟩⟩
  · refine s_iload_n (pc := 13) hF dJ6_newLength_13 rfl rfl ?_
    refine s_ldc (pc := 14) hF q474 dJ6_newLength_14 ?_
    refine s_icmp_gt (pc := 16) hF 21 dJ6_newLength_16 rfl ?_ ?_
    · exact SK.sb (gJ6_newLength_J21 hF a0 a1 M z) ⟨rfl, ⟨rfl, trivial⟩⟩
    · refine s_iload_n (pc := 19) hF dJ6_newLength_19 rfl rfl ?_
      exact s_iret (pc := 20) hF dJ6_newLength_20
theorem mJ6_newLength (a0 : Int32) (a1 : Int32) (a2 : Int32) : MT yJ6_newLength cJ6_newLength 4 (Option.some Jvm.ClassFile.FieldType.int) 1 22 eI [.int a0, .int a1, .int a2] (fJ6_newLength a0 a1 a2) :=
  MT.of (L0 := [some (.int a0), some (.int a1), some (.int a2), none]) (by decide) ⟨rfl, ⟨rfl, ⟨rfl, trivial⟩⟩⟩ (Nat.le_of_ble_eq_true rfl) rfl (fun _ _ hF M z => gJ6_newLength hF a0 a1 a2 M z)

def fJ2_isEmpty (a0 : Option Nat) (M : Mp) (z : Nat) : Rs Int32 := (gi M a0 [11] 2).bind fun v1 =>
if v1 = 0 then
  (some ((1 : Int32), M, 0, 0))
else
  (some ((0 : Int32), M, 0, 0))
theorem gJ2_isEmpty {G : Cx} {F : Option Value × Mp × Nat} (hF : FX G cJ2_isEmpty 1 RJ2 (Option.some Jvm.ClassFile.FieldType.boolean) "isEmpty" 0 0) (a0 : Option Nat) (M : Mp) (z : Nat) : SK G F 1 eI 0 [some (va_rf a0)] [] M z (fJ2_isEmpty a0 M z) := by
  unfold fJ2_isEmpty
  refine s_aload_n (pc := 0) hF dJ2_isEmpty_0 rfl rfl ?_
  refine s_geti (pc := 1) hF (fl_J2_48 hF) dJ2_isEmpty_1 (fun v1 => ?_)
  refine s_if_ne (pc := 4) hF 11 dJ2_isEmpty_4 rfl ?_ ?_
  · refine s_iconst (pc := 11) hF dJ2_isEmpty_11 (0 : Int32) (by decide) ?_
    exact s_zretL (pc := 12) hF dJ2_isEmpty_12 (by decide)
  · refine s_iconst (pc := 7) hF dJ2_isEmpty_7 (1 : Int32) (by decide) ?_
    refine s_goto (pc := 8) hF 12 dJ2_isEmpty_8 rfl ?_
    exact s_zretL (pc := 12) hF dJ2_isEmpty_12 (by decide)
theorem mJ2_isEmpty (a0 : Option Nat) : MT yJ2_isEmpty cJ2_isEmpty 1 (Option.some Jvm.ClassFile.FieldType.boolean) 0 0 eI [va_rf a0] (fJ2_isEmpty a0) :=
  MT.of (L0 := [some (va_rf a0)]) (by decide) ⟨ct _, trivial⟩ (Nat.le_of_ble_eq_true rfl) rfl (fun _ _ hF M z => gJ2_isEmpty hF a0 M z)

theorem fl_J2_63 {G : Cx} {nL fr lc : Nat} {cc : ByteArray} {ret : Option FieldType} {nm : String} (hF : FX G cc nL RJ2 ret nm fr lc) : ∀ c ∈ [11], GF G RJ2 63 c 0 := by
  obtain ⟨⟨p, l, e, R, s, m, args, below, meth, c0⟩, A, D, dA, mi⟩ := G
  obtain ⟨hx, hb, hml, hown, hts, hr, hlk, hK, hnm, hfr, hlc⟩ := hF
  exact List.forall_mem_cons.mpr ⟨⟨RJ2, TJ2, 3, "java/util/ArrayList", rfl, in_J2, Nat.le_of_ble_eq_true rfl, Or.inl (hts _ q111), u_same (hts _ q110)⟩, fun _ h9 => absurd h9 List.not_mem_nil⟩
theorem pl_J2_63 {G : Cx} {nL fr lc : Nat} {cc : ByteArray} {ret : Option FieldType} {nm : String} (hF : FX G cc nL RJ2 ret nm fr lc) (x9 : Int32) : ∀ c ∈ [11], PF G RJ2 nm 63 c 0 (.int x9) := by
  obtain ⟨⟨p, l, e, R, s, m, args, below, meth, c0⟩, A, D, dA, mi⟩ := G
  obtain ⟨hx, hb, hml, hown, hts, hr, hlk, hK, hnm, hfr, hlc⟩ := hF
  exact List.forall_mem_cons.mpr ⟨⟨RJ2, TJ2, 3, "java/util/ArrayList", tyJ2 0, rfl, in_J2, Nat.le_of_ble_eq_true rfl, Or.inl ⟨(hts _ q111), Or.inl rfl⟩, u_same (hts _ q110), tyJ2_ok 0 (Nat.le_of_ble_eq_true rfl), rfl, rfl, ap_11 hts hK⟩, fun _ h9 => absurd h9 List.not_mem_nil⟩
theorem pl_J2_48 {G : Cx} {nL fr lc : Nat} {cc : ByteArray} {ret : Option FieldType} {nm : String} (hF : FX G cc nL RJ2 ret nm fr lc) (x9 : Int32) : ∀ c ∈ [11], PF G RJ2 nm 48 c 2 (.int x9) := by
  obtain ⟨⟨p, l, e, R, s, m, args, below, meth, c0⟩, A, D, dA, mi⟩ := G
  obtain ⟨hx, hb, hml, hown, hts, hr, hlk, hK, hnm, hfr, hlc⟩ := hF
  exact List.forall_mem_cons.mpr ⟨⟨RJ2, TJ2, 3, "java/util/ArrayList", tyJ2 2, rfl, in_J2, Nat.le_of_ble_eq_true rfl, Or.inl ⟨(hts _ q107), Or.inl rfl⟩, fun _ h => h, tyJ2_ok 2 (Nat.le_of_ble_eq_true rfl), rfl, rfl, ap_11 hts hK⟩, fun _ h9 => absurd h9 List.not_mem_nil⟩
def fJ2_fastRemove_J34 (l0 : Option Nat) (l1 : Option Nat) (l3 : Int32) (M : Mp) (z : Nat) : Rs Unit := (pu M l0 [11] 2 (.int l3)).bind fun M1 =>
(sr M1 2 l1 l3 none).bind fun M2 =>
some ((), M2, 0, 0)

theorem gJ2_fastRemove_J34 {G : Cx} {F : Option Value × Mp × Nat} (hF : FX G cJ2_fastRemove 4 RJ2 (Option.none : Option Jvm.ClassFile.FieldType) "fastRemove" 1 60) (l0 : Option Nat) (l1 : Option Nat) (l3 : Int32) (M : Mp) (z : Nat) : SK G F 4 eV 34 [some (va_rf l0), some (va_rf l1), none, some (.int l3)] [] M z (fJ2_fastRemove_J34 l0 l1 l3 M z) := by
  unfold fJ2_fastRemove_J34
  refine s_aload_n (pc := 34) hF dJ2_fastRemove_34 rfl rfl ?_
  refine s_aload_n (pc := 35) hF dJ2_fastRemove_35 rfl rfl ?_
  refine s_iload_n (pc := 36) hF dJ2_fastRemove_36 rfl rfl ?_
  refine s_dup_x1 (pc := 37) hF dJ2_fastRemove_37 rfl (ct _) ?_
  refine s_put (pc := 38) hF (pl_J2_48 hF _) dJ2_fastRemove_38 (fun M1 => ?_)
  refine s_null (pc := 41) hF dJ2_fastRemove_41 ?_
  refine s_aast (pc := 42) 2 (by decide) hF dJ2_fastRemove_42 (fun M2 => ?_)
  exact s_vret (pc := 43) hF dJ2_fastRemove_43
def fJ2_fastRemove (a0 : Option Nat) (a1 : Option Nat) (a2 : Int32) (M : Mp) (z : Nat) : Rs Unit := (gi M a0 [11] 0).bind fun v1 =>
(pu M a0 [11] 0 (.int (v1 + (1 : Int32)))).bind fun M2 =>
(gi M2 a0 [11] 2).bind fun v3 =>
if a2 < (v3 - (1 : Int32)) then
  ((ac M2 a1 (a2 + (1 : Int32)) a1 a2 ((v3 - (1 : Int32)) - a2)).bind fun M4 =>
fJ2_fastRemove_J34 a0 a1 (v3 - (1 : Int32)) M4 z)
else
  (fJ2_fastRemove_J34 a0 a1 (v3 - (1 : Int32)) M2 z)
theorem gJ2_fastRemove {G : Cx} {F : Option Value × Mp × Nat} (hF : FX G cJ2_fastRemove 4 RJ2 (Option.none : Option Jvm.ClassFile.FieldType) "fastRemove" 1 60) (a0 : Option Nat) (a1 : Option Nat) (a2 : Int32) (M : Mp) (z : Nat) : SK G F 4 eV 0 [some (va_rf a0), some (va_rf a1), some (.int a2), none] [] M z (fJ2_fastRemove a0 a1 a2 M z) := by
  unfold fJ2_fastRemove
  refine s_aload_n (pc := 0) hF dJ2_fastRemove_0 rfl rfl ?_
  refine s_dup (pc := 1) hF dJ2_fastRemove_1 (ct _) ?_
  refine s_geti (pc := 2) hF (fl_J2_63 hF) dJ2_fastRemove_2 (fun v1 => ?_)
  refine s_iconst (pc := 5) hF dJ2_fastRemove_5 (1 : Int32) (by decide) ?_
  refine s_iadd (pc := 6) hF dJ2_fastRemove_6 ?_
  refine s_put (pc := 7) hF (pl_J2_63 hF _) dJ2_fastRemove_7 (fun M2 => ?_)
  refine s_aload_n (pc := 10) hF dJ2_fastRemove_10 rfl rfl ?_
  refine s_geti (pc := 11) hF (fl_J2_48 hF) dJ2_fastRemove_11 (fun v3 => ?_)
  refine s_iconst (pc := 14) hF dJ2_fastRemove_14 (1 : Int32) (by decide) ?_
  refine s_isub (pc := 15) hF dJ2_fastRemove_15 ?_
  refine s_dup (pc := 16) hF dJ2_fastRemove_16 rfl ?_
  refine s_istore_n (L9 := [some (va_rf a0), some (va_rf a1), some (.int a2), some (.int (v3 - (1 : Int32)))]) (pc := 17) hF dJ2_fastRemove_17 rfl (Nat.le_of_ble_eq_true rfl) rfl ?_
  refine s_iload_n (pc := 18) hF dJ2_fastRemove_18 rfl rfl ?_
  refine s_icmp_le (pc := 19) hF 34 dJ2_fastRemove_19 rfl ?_ ?_
  · exact SK.sb (gJ2_fastRemove_J34 hF a0 a1 (v3 - (1 : Int32)) M2 z) ⟨rfl, ⟨rfl, ⟨rfl, trivial⟩⟩⟩
  · refine s_aload_n (pc := 22) hF dJ2_fastRemove_22 rfl rfl ?_
    refine s_iload_n (pc := 23) hF dJ2_fastRemove_23 rfl rfl ?_
    refine s_iconst (pc := 24) hF dJ2_fastRemove_24 (1 : Int32) (by decide) ?_
    refine s_iadd (pc := 25) hF dJ2_fastRemove_25 ?_
    refine s_aload_n (pc := 26) hF dJ2_fastRemove_26 rfl rfl ?_
    refine s_iload_n (pc := 27) hF dJ2_fastRemove_27 rfl rfl ?_
    refine s_iload_n (pc := 28) hF dJ2_fastRemove_28 rfl rfl ?_
    refine s_iload_n (pc := 29) hF dJ2_fastRemove_29 rfl rfl ?_
    refine s_isub (pc := 30) hF dJ2_fastRemove_30 ?_
    refine s_acopy (pc := 31) hF q592 ⟨Nat.le_of_ble_eq_true rfl, Nat.le_of_ble_eq_true rfl⟩ ⟨trivial, Nat.le_of_ble_eq_true rfl⟩ dJ2_fastRemove_31 (fun M4 => ?_)
    exact SK.sb (gJ2_fastRemove_J34 hF a0 a1 (v3 - (1 : Int32)) M4 z) ⟨rfl, ⟨rfl, ⟨rfl, trivial⟩⟩⟩
theorem mJ2_fastRemove (a0 : Option Nat) (a1 : Option Nat) (a2 : Int32) : MT yJ2_fastRemove cJ2_fastRemove 4 (Option.none : Option Jvm.ClassFile.FieldType) 1 60 eV [va_rf a0, va_rf a1, .int a2] (fJ2_fastRemove a0 a1 a2) :=
  MT.of (L0 := [some (va_rf a0), some (va_rf a1), some (.int a2), none]) (by decide) ⟨ct _, ⟨ct _, ⟨rfl, trivial⟩⟩⟩ (Nat.le_of_ble_eq_true rfl) rfl (fun _ _ hF M z => gJ2_fastRemove hF a0 a1 a2 M z)

theorem cw_J2_fastRemove : CWm yJ2_fastRemove cJ2_fastRemove 4 (Option.none : Option Jvm.ClassFile.FieldType) 2 := ⟨q591, q62, by decide +kernel, by decide +kernel, by decide +kernel⟩
def fJ2_remove (a0 : Option Nat) (a1 : Int32) (M : Mp) (z : Nat) : Rs (Option Nat) := (gi M a0 [11] 2).bind fun v1 =>
cb (fJ4_checkIndex a1 v1 M z) z fun v2 M3 z4 =>
(gr M3 a0 [11] 1).bind fun v5 =>
(ar M3 2 v5 a1).bind fun v6 =>
if ckc M3 a0 [11] = true then
  (cb (fJ2_fastRemove a0 v5 a1 M3 z4) z4 fun _ M8 z9 =>
some (v6, M8, 0, 0))
else none
theorem gJ2_remove {G : Cx} {F : Option Value × Mp × Nat} (hF : FX G cJ2_remove 4 RJ2 (Option.some (Jvm.ClassFile.FieldType.object "java/lang/Object")) "remove" 2 83) (a0 : Option Nat) (a1 : Int32) (M : Mp) (z : Nat) : SK G F 4 eR 0 [some (va_rf a0), some (.int a1), none, none] [] M z (fJ2_remove a0 a1 M z) := by
  unfold fJ2_remove
  refine s_iload_n (pc := 0) hF dJ2_remove_0 rfl rfl ?_
  refine s_aload_n (pc := 1) hF dJ2_remove_1 rfl rfl ?_
  refine s_geti (pc := 2) hF (fl_J2_48 hF) dJ2_remove_2 (fun v1 => ?_)
  refine s_callS (pc := 5) (As := [.int a1, .int v1]) (st := []) (stf := fun r9 => .int r9 :: []) hF (mJ4_checkIndex a1 v1) cw_J4_checkIndex q359 q360 rfl ⟨Nat.le_of_ble_eq_true rfl, Nat.le_of_ble_eq_true rfl⟩ ⟨trivial, Nat.le_of_ble_eq_true rfl⟩ dJ2_remove_5 rfl (fun _ => rfl) (fun v2 M3 z4 => ?_)
  refine s_pop (pc := 8) hF dJ2_remove_8 rfl ?_
  refine s_aload_n (pc := 9) hF dJ2_remove_9 rfl rfl ?_
  refine s_getr (pc := 10) hF (fl_J2_9 hF) dJ2_remove_10 (fun v5 => ?_)
  refine s_astore_n (L9 := [some (va_rf a0), some (.int a1), some (va_rf v5), none]) (pc := 13) hF dJ2_remove_13 rfl (Nat.le_of_ble_eq_true rfl) rfl ?_
  refine s_aload_n (pc := 14) hF dJ2_remove_14 rfl rfl ?_
  refine s_iload_n (pc := 15) hF dJ2_remove_15 rfl rfl ?_
  refine s_aald (pc := 16) 2 (by decide) hF dJ2_remove_16 (fun v6 => ?_)
  refine s_astore_n (L9 := [some (va_rf a0), some (.int a1), some (va_rf v5), some (va_rf v6)]) (pc := 17) hF dJ2_remove_17 rfl (Nat.le_of_ble_eq_true rfl) rfl ?_
  refine s_aload_n (pc := 18) hF dJ2_remove_18 rfl rfl ?_
  refine s_aload_n (pc := 19) hF dJ2_remove_19 rfl rfl ?_
  refine s_iload_n (pc := 20) hF dJ2_remove_20 rfl rfl ?_
  refine s_callV (pc := 21) (As := [va_rf v5, .int a1]) (st := []) (stf := fun r9 => []) hF (mJ2_fastRemove a0 v5 a1) cw_J2_fastRemove q588 q590 (List.forall_mem_cons.mpr ⟨⟨(RJ2, TJ2, 3), rfl, qs6⟩, fun _ h9 => absurd h9 List.not_mem_nil⟩) rfl ⟨Nat.le_of_ble_eq_true rfl, Nat.le_of_ble_eq_true rfl⟩ ⟨trivial, Nat.le_of_ble_eq_true rfl⟩ dJ2_remove_21 rfl (fun _ => rfl) (fun v7 M8 z9 => ?_)
  refine s_aload_n (pc := 24) hF dJ2_remove_24 rfl rfl ?_
  exact s_aret (pc := 25) hF rfl (Or.inl ⟨_, rfl⟩) dJ2_remove_25
theorem mJ2_remove (a0 : Option Nat) (a1 : Int32) : MT yJ2_remove cJ2_remove 4 (Option.some (Jvm.ClassFile.FieldType.object "java/lang/Object")) 2 83 eR [va_rf a0, .int a1] (fJ2_remove a0 a1) :=
  MT.of (L0 := [some (va_rf a0), some (.int a1), none, none]) (by decide) ⟨ct _, ⟨rfl, trivial⟩⟩ (Nat.le_of_ble_eq_true rfl) rfl (fun _ _ hF M z => gJ2_remove hF a0 a1 M z)

def fJ2_clear_L27 : Nat → Option Nat → Int32 → Int32 → Mp → Nat → Rs Unit
  | 0, _, _, _, _, _ => none
  | fu + 1, l1, l2, l3, M, z => if l3 < l2 then
  ((sr M 2 l1 l3 none).bind fun M1 =>
fJ2_clear_L27 fu l1 l2 (l3 + 1) M1 z)
else
  (some ((), M, 0, 0))

theorem gJ2_clear_L27 {G : Cx} {F : Option Value × Mp × Nat} (hF : FX G cJ2_clear 4 RJ2 (Option.none : Option Jvm.ClassFile.FieldType) "clear" 0 0) : ∀ (fu : Nat) (l1 : Option Nat) (l2 : Int32) (l3 : Int32) (M : Mp) (z : Nat), SK G F 4 eV 27 [none, some (va_rf l1), some (.int l2), some (.int l3)] [] M z (fJ2_clear_L27 fu l1 l2 l3 M z) := by
  intro fu
  induction fu with
  | zero => intros; exact SK.fail
  | succ fu ih =>
    intro l1 l2 l3 M z
    rw [fJ2_clear_L27]
    refine s_iload_n (pc := 27) hF dJ2_clear_27 rfl rfl ?_
    refine s_iload_n (pc := 28) hF dJ2_clear_28 rfl rfl ?_
    refine s_icmp_ge (pc := 29) hF 42 dJ2_clear_29 rfl ?_ ?_
    · exact s_vret (pc := 42) hF dJ2_clear_42
    · refine s_aload_n (pc := 32) hF dJ2_clear_32 rfl rfl ?_
      refine s_iload_n (pc := 33) hF dJ2_clear_33 rfl rfl ?_
      refine s_null (pc := 34) hF dJ2_clear_34 ?_
      refine s_aast (pc := 35) 2 (by decide) hF dJ2_clear_35 (fun M1 => ?_)
      refine s_iinc (v := l3 + 1) (L9 := [none, some (va_rf l1), some (.int l2), some (.int (l3 + 1))]) (pc := 36) hF dJ2_clear_36 rfl rfl (Nat.le_of_ble_eq_true rfl) rfl ?_
      refine s_goto (pc := 39) hF 27 dJ2_clear_39 rfl ?_
      exact SK.sb (ih l1 l2 (l3 + 1) M1 z) ⟨rfl, ⟨rfl, ⟨rfl, trivial⟩⟩⟩
def fJ2_clear (a0 : Option Nat) (M : Mp) (z : Nat) : Rs Unit := (gi M a0 [11] 0).bind fun v1 =>
(pu M a0 [11] 0 (.int (v1 + (1 : Int32)))).bind fun M2 =>
(gr M2 a0 [11] 1).bind fun v3 =>
(gi M2 a0 [11] 2).bind fun v4 =>
(pu M2 a0 [11] 2 (.int (0 : Int32))).bind fun M5 =>
fJ2_clear_L27 FU v3 v4 (0 : Int32) M5 z
theorem gJ2_clear {G : Cx} {F : Option Value × Mp × Nat} (hF : FX G cJ2_clear 4 RJ2 (Option.none : Option Jvm.ClassFile.FieldType) "clear" 0 0) (a0 : Option Nat) (M : Mp) (z : Nat) : SK G F 4 eV 0 [some (va_rf a0), none, none, none] [] M z (fJ2_clear a0 M z) := by
  unfold fJ2_clear
  refine s_aload_n (pc := 0) hF dJ2_clear_0 rfl rfl ?_
  refine s_dup (pc := 1) hF dJ2_clear_1 (ct _) ?_
  refine s_geti (pc := 2) hF (fl_J2_63 hF) dJ2_clear_2 (fun v1 => ?_)
  refine s_iconst (pc := 5) hF dJ2_clear_5 (1 : Int32) (by decide) ?_
  refine s_iadd (pc := 6) hF dJ2_clear_6 ?_
  refine s_put (pc := 7) hF (pl_J2_63 hF _) dJ2_clear_7 (fun M2 => ?_)
  refine s_aload_n (pc := 10) hF dJ2_clear_10 rfl rfl ?_
  refine s_getr (pc := 11) hF (fl_J2_9 hF) dJ2_clear_11 (fun v3 => ?_)
  refine s_astore_n (L9 := [some (va_rf a0), some (va_rf v3), none, none]) (pc := 14) hF dJ2_clear_14 rfl (Nat.le_of_ble_eq_true rfl) rfl ?_
  refine s_aload_n (pc := 15) hF dJ2_clear_15 rfl rfl ?_
  refine s_geti (pc := 16) hF (fl_J2_48 hF) dJ2_clear_16 (fun v4 => ?_)
  refine s_istore_n (L9 := [some (va_rf a0), some (va_rf v3), some (.int v4), none]) (pc := 19) hF dJ2_clear_19 rfl (Nat.le_of_ble_eq_true rfl) rfl ?_
  refine s_aload_n (pc := 20) hF dJ2_clear_20 rfl rfl ?_
  refine s_iconst (pc := 21) hF dJ2_clear_21 (0 : Int32) (by decide) ?_
  refine s_dup_x1 (pc := 22) hF dJ2_clear_22 rfl (ct _) ?_
  refine s_put (pc := 23) hF (pl_J2_48 hF _) dJ2_clear_23 (fun M5 => ?_)
  refine s_istore_n (L9 := [some (va_rf a0), some (va_rf v3), some (.int v4), some (.int (0 : Int32))]) (pc := 26) hF dJ2_clear_26 rfl (Nat.le_of_ble_eq_true rfl) rfl ?_
  exact SK.sb (gJ2_clear_L27 hF FU v3 v4 (0 : Int32) M5 z) ⟨rfl, ⟨rfl, ⟨rfl, trivial⟩⟩⟩
theorem mJ2_clear (a0 : Option Nat) : MT yJ2_clear cJ2_clear 4 (Option.none : Option Jvm.ClassFile.FieldType) 0 0 eV [va_rf a0] (fJ2_clear a0) :=
  MT.of (L0 := [some (va_rf a0), none, none, none]) (by decide) ⟨ct _, trivial⟩ (Nat.le_of_ble_eq_true rfl) rfl (fun _ _ hF M z => gJ2_clear hF a0 M z)

def fJ2_rangeCheckForAdd (a0 : Option Nat) (a1 : Int32) (M : Mp) (z : Nat) : Rs Unit := (gi M a0 [11] 2).bind fun v1 =>
if v1 < a1 then
  (none)
else
  (if a1 < 0 then
  (none)
else
  (some ((), M, 0, 0)))
theorem gJ2_rangeCheckForAdd {G : Cx} {F : Option Value × Mp × Nat} (hF : FX G cJ2_rangeCheckForAdd 2 RJ2 (Option.none : Option Jvm.ClassFile.FieldType) "rangeCheckForAdd" 0 0) (a0 : Option Nat) (a1 : Int32) (M : Mp) (z : Nat) : SK G F 2 eV 0 [some (va_rf a0), some (.int a1)] [] M z (fJ2_rangeCheckForAdd a0 a1 M z) := by
  unfold fJ2_rangeCheckForAdd
  refine s_iload_n (pc := 0) hF dJ2_rangeCheckForAdd_0 rfl rfl ?_
  refine s_aload_n (pc := 1) hF dJ2_rangeCheckForAdd_1 rfl rfl ?_
  refine s_geti (pc := 2) hF (fl_J2_48 hF) dJ2_rangeCheckForAdd_2 (fun v1 => ?_)
  refine s_icmp_gt (pc := 5) hF 12 dJ2_rangeCheckForAdd_5 rfl ?_ ?_
  · exact SK.fail
  · refine s_iload_n (pc := 8) hF dJ2_rangeCheckForAdd_8 rfl rfl ?_
    refine s_if_ge (pc := 9) hF 25 dJ2_rangeCheckForAdd_9 rfl ?_ ?_
    · exact s_vret (pc := 25) hF dJ2_rangeCheckForAdd_25
    · exact SK.fail
theorem mJ2_rangeCheckForAdd (a0 : Option Nat) (a1 : Int32) : MT yJ2_rangeCheckForAdd cJ2_rangeCheckForAdd 2 (Option.none : Option Jvm.ClassFile.FieldType) 0 0 eV [va_rf a0, .int a1] (fJ2_rangeCheckForAdd a0 a1) :=
  MT.of (L0 := [some (va_rf a0), some (.int a1)]) (by decide) ⟨ct _, ⟨rfl, trivial⟩⟩ (Nat.le_of_ble_eq_true rfl) rfl (fun _ _ hF M z => gJ2_rangeCheckForAdd hF a0 a1 M z)

theorem fl_J3_25 {G : Cx} {nL fr lc : Nat} {cc : ByteArray} {ret : Option FieldType} {nm : String} (hF : FX G cc nL RJ3 ret nm fr lc) : ∀ c ∈ [12], GF G RJ3 25 c 0 := by
  obtain ⟨⟨p, l, e, R, s, m, args, below, meth, c0⟩, A, D, dA, mi⟩ := G
  obtain ⟨hx, hb, hml, hown, hts, hr, hlk, hK, hnm, hfr, hlc⟩ := hF
  exact List.forall_mem_cons.mpr ⟨⟨RJ3, TJ3, 4, "java/util/ArrayList$Itr", rfl, in_J3, Nat.le_of_ble_eq_true rfl, Or.inl (hts _ q284), fun _ h => h⟩, fun _ h9 => absurd h9 List.not_mem_nil⟩
theorem fl_J3_28 {G : Cx} {nL fr lc : Nat} {cc : ByteArray} {ret : Option FieldType} {nm : String} (hF : FX G cc nL RJ3 ret nm fr lc) : ∀ c ∈ [11], GF G RJ3 28 c 2 := by
  obtain ⟨⟨p, l, e, R, s, m, args, below, meth, c0⟩, A, D, dA, mi⟩ := G
  obtain ⟨hx, hb, hml, hown, hts, hr, hlk, hK, hnm, hfr, hlc⟩ := hF
  exact List.forall_mem_cons.mpr ⟨⟨RJ2, TJ2, 3, "java/util/ArrayList", rfl, in_J2, Nat.le_of_ble_eq_true rfl, Or.inr ⟨_, (va_Nw.use rfl (hK.2.1 _ n_q106))⟩, fun _ h => h⟩, fun _ h9 => absurd h9 List.not_mem_nil⟩
def fJ3_hasNext (a0 : Option Nat) (M : Mp) (z : Nat) : Rs Int32 := (gi M a0 [12] 0).bind fun v1 =>
(gr M a0 [12] 3).bind fun v2 =>
(gi M v2 [11] 2).bind fun v3 =>
if v1 = v3 then
  (some ((0 : Int32), M, 0, 0))
else
  (some ((1 : Int32), M, 0, 0))
theorem gJ3_hasNext {G : Cx} {F : Option Value × Mp × Nat} (hF : FX G cJ3_hasNext 1 RJ3 (Option.some Jvm.ClassFile.FieldType.boolean) "hasNext" 0 0) (a0 : Option Nat) (M : Mp) (z : Nat) : SK G F 1 eI 0 [some (va_rf a0)] [] M z (fJ3_hasNext a0 M z) := by
  unfold fJ3_hasNext
  refine s_aload_n (pc := 0) hF dJ3_hasNext_0 rfl rfl ?_
  refine s_geti (pc := 1) hF (fl_J3_25 hF) dJ3_hasNext_1 (fun v1 => ?_)
  refine s_aload_n (pc := 4) hF dJ3_hasNext_4 rfl rfl ?_
  refine s_getr (pc := 5) hF (fl_J3_1 hF) dJ3_hasNext_5 (fun v2 => ?_)
  refine s_geti (pc := 8) hF (fl_J3_28 hF) dJ3_hasNext_8 (fun v3 => ?_)
  refine s_icmp_eq (pc := 11) hF 18 dJ3_hasNext_11 rfl ?_ ?_
  · refine s_iconst (pc := 18) hF dJ3_hasNext_18 (0 : Int32) (by decide) ?_
    exact s_zretL (pc := 19) hF dJ3_hasNext_19 (by decide)
  · refine s_iconst (pc := 14) hF dJ3_hasNext_14 (1 : Int32) (by decide) ?_
    refine s_goto (pc := 15) hF 19 dJ3_hasNext_15 rfl ?_
    exact s_zretL (pc := 19) hF dJ3_hasNext_19 (by decide)
theorem mJ3_hasNext (a0 : Option Nat) : MT yJ3_hasNext cJ3_hasNext 1 (Option.some Jvm.ClassFile.FieldType.boolean) 0 0 eI [va_rf a0] (fJ3_hasNext a0) :=
  MT.of (L0 := [some (va_rf a0)]) (by decide) ⟨ct _, trivial⟩ (Nat.le_of_ble_eq_true rfl) rfl (fun _ _ hF M z => gJ3_hasNext hF a0 M z)

theorem fl_J3_22 {G : Cx} {nL fr lc : Nat} {cc : ByteArray} {ret : Option FieldType} {nm : String} (hF : FX G cc nL RJ3 ret nm fr lc) : ∀ c ∈ [12], GF G RJ3 22 c 2 := by
  obtain ⟨⟨p, l, e, R, s, m, args, below, meth, c0⟩, A, D, dA, mi⟩ := G
  obtain ⟨hx, hb, hml, hown, hts, hr, hlk, hK, hnm, hfr, hlc⟩ := hF
  exact List.forall_mem_cons.mpr ⟨⟨RJ3, TJ3, 4, "java/util/ArrayList$Itr", rfl, in_J3, Nat.le_of_ble_eq_true rfl, Or.inl (hts _ q286), fun _ h => h⟩, fun _ h9 => absurd h9 List.not_mem_nil⟩
def fJ3_checkForComodification (a0 : Option Nat) (M : Mp) (z : Nat) : Rs Unit := (gr M a0 [12] 3).bind fun v1 =>
(gi M v1 [11] 0).bind fun v2 =>
(gi M a0 [12] 2).bind fun v3 =>
if v2 = v3 then
  (some ((), M, 0, 0))
else
  (none)
theorem gJ3_checkForComodification {G : Cx} {F : Option Value × Mp × Nat} (hF : FX G cJ3_checkForComodification 1 RJ3 (Option.none : Option Jvm.ClassFile.FieldType) "checkForComodification" 0 0) (a0 : Option Nat) (M : Mp) (z : Nat) : SK G F 1 eV 0 [some (va_rf a0)] [] M z (fJ3_checkForComodification a0 M z) := by
  unfold fJ3_checkForComodification
  refine s_aload_n (pc := 0) hF dJ3_checkForComodification_0 rfl rfl ?_
  refine s_getr (pc := 1) hF (fl_J3_1 hF) dJ3_checkForComodification_1 (fun v1 => ?_)
  refine s_geti (pc := 4) hF (fl_J3_17 hF) dJ3_checkForComodification_4 (fun v2 => ?_)
  refine s_aload_n (pc := 7) hF dJ3_checkForComodification_7 rfl rfl ?_
  refine s_geti (pc := 8) hF (fl_J3_22 hF) dJ3_checkForComodification_8 (fun v3 => ?_)
  refine s_icmp_eq (pc := 11) hF 22 dJ3_checkForComodification_11 rfl ?_ ?_
  · exact s_vret (pc := 22) hF dJ3_checkForComodification_22
  · exact SK.fail
theorem mJ3_checkForComodification (a0 : Option Nat) : MT yJ3_checkForComodification cJ3_checkForComodification 1 (Option.none : Option Jvm.ClassFile.FieldType) 0 0 eV [va_rf a0] (fJ3_checkForComodification a0) :=
  MT.of (L0 := [some (va_rf a0)]) (by decide) ⟨ct _, trivial⟩ (Nat.le_of_ble_eq_true rfl) rfl (fun _ _ hF M z => gJ3_checkForComodification hF a0 M z)

theorem fl_J3_37 {G : Cx} {nL fr lc : Nat} {cc : ByteArray} {ret : Option FieldType} {nm : String} (hF : FX G cc nL RJ3 ret nm fr lc) : ∀ c ∈ [11], GF G RJ3 37 c 1 := by
  obtain ⟨⟨p, l, e, R, s, m, args, below, meth, c0⟩, A, D, dA, mi⟩ := G
  obtain ⟨hx, hb, hml, hown, hts, hr, hlk, hK, hnm, hfr, hlc⟩ := hF
  exact List.forall_mem_cons.mpr ⟨⟨RJ2, TJ2, 3, "java/util/ArrayList", rfl, in_J2, Nat.le_of_ble_eq_true rfl, Or.inl (hts _ q105), fun _ h => h⟩, fun _ h9 => absurd h9 List.not_mem_nil⟩
theorem pl_J3_25 {G : Cx} {nL fr lc : Nat} {cc : ByteArray} {ret : Option FieldType} {nm : String} (hF : FX G cc nL RJ3 ret nm fr lc) (x9 : Int32) : ∀ c ∈ [12], PF G RJ3 nm 25 c 0 (.int x9) := by
  obtain ⟨⟨p, l, e, R, s, m, args, below, meth, c0⟩, A, D, dA, mi⟩ := G
  obtain ⟨hx, hb, hml, hown, hts, hr, hlk, hK, hnm, hfr, hlc⟩ := hF
  exact List.forall_mem_cons.mpr ⟨⟨RJ3, TJ3, 4, "java/util/ArrayList$Itr", tyJ3 0, rfl, in_J3, Nat.le_of_ble_eq_true rfl, Or.inl ⟨(hts _ q284), Or.inl rfl⟩, fun _ h => h, tyJ3_ok 0 (Nat.le_of_ble_eq_true rfl), rfl, rfl, ap_12 hts hK⟩, fun _ h9 => absurd h9 List.not_mem_nil⟩
theorem cw_J3_checkForComodification : CWm yJ3_checkForComodification cJ3_checkForComodification 1 (Option.none : Option Jvm.ClassFile.FieldType) 0 := ⟨q378, q66, by decide +kernel, by decide +kernel, by decide +kernel⟩
def fJ3_next (a0 : Option Nat) (M : Mp) (z : Nat) : Rs (Option Nat) := if ckc M a0 [12] = true then
  (cb (fJ3_checkForComodification a0 M z) z fun _ M2 z3 =>
(gi M2 a0 [12] 0).bind fun v4 =>
(gr M2 a0 [12] 3).bind fun v5 =>
(gi M2 v5 [11] 2).bind fun v6 =>
if v4 < v6 then
  ((gr M2 a0 [12] 3).bind fun v7 =>
(gr M2 v7 [11] 1).bind fun v8 =>
(al M2 v8).bind fun v9 =>
if v4 < v9 then
  ((pu M2 a0 [12] 0 (.int (v4 + (1 : Int32)))).bind fun M10 =>
(pu M10 a0 [12] 1 (.int v4)).bind fun M11 =>
(ar M11 2 v8 v4).bind fun v12 =>
some (v12, M11, 0, 0))
else
  (none))
else
  (none))
else none
theorem gJ3_next {G : Cx} {F : Option Value × Mp × Nat} (hF : FX G cJ3_next 3 RJ3 (Option.some (Jvm.ClassFile.FieldType.object "java/lang/Object")) "next" 1 20) (a0 : Option Nat) (M : Mp) (z : Nat) : SK G F 3 eR 0 [some (va_rf a0), none, none] [] M z (fJ3_next a0 M z) := by
  unfold fJ3_next
  refine s_aload_n (pc := 0) hF dJ3_next_0 rfl rfl ?_
  refine s_callV (pc := 1) (As := []) (st := []) (stf := fun r9 => []) hF (mJ3_checkForComodification a0) cw_J3_checkForComodification q375 q376 (List.forall_mem_cons.mpr ⟨⟨(RJ3, TJ3, 4), rfl, q377⟩, fun _ h9 => absurd h9 List.not_mem_nil⟩) rfl ⟨Nat.le_of_ble_eq_true rfl, Nat.le_of_ble_eq_true rfl⟩ ⟨trivial, Nat.le_of_ble_eq_true rfl⟩ dJ3_next_1 rfl (fun _ => rfl) (fun v1 M2 z3 => ?_)
  refine s_aload_n (pc := 4) hF dJ3_next_4 rfl rfl ?_
  refine s_geti (pc := 5) hF (fl_J3_25 hF) dJ3_next_5 (fun v4 => ?_)
  refine s_istore_n (L9 := [some (va_rf a0), some (.int v4), none]) (pc := 8) hF dJ3_next_8 rfl (Nat.le_of_ble_eq_true rfl) rfl ?_
  refine s_iload_n (pc := 9) hF dJ3_next_9 rfl rfl ?_
  refine s_aload_n (pc := 10) hF dJ3_next_10 rfl rfl ?_
  refine s_getr (pc := 11) hF (fl_J3_1 hF) dJ3_next_11 (fun v5 => ?_)
  refine s_geti (pc := 14) hF (fl_J3_28 hF) dJ3_next_14 (fun v6 => ?_)
  refine s_icmp_lt (pc := 17) hF 28 dJ3_next_17 rfl ?_ ?_
  · refine s_aload_n (pc := 28) hF dJ3_next_28 rfl rfl ?_
    refine s_getr (pc := 29) hF (fl_J3_1 hF) dJ3_next_29 (fun v7 => ?_)
    refine s_getr (pc := 32) hF (fl_J3_37 hF) dJ3_next_32 (fun v8 => ?_)
    refine s_astore_n (L9 := [some (va_rf a0), some (.int v4), some (va_rf v8)]) (pc := 35) hF dJ3_next_35 rfl (Nat.le_of_ble_eq_true rfl) rfl ?_
    refine s_iload_n (pc := 36) hF dJ3_next_36 rfl rfl ?_
    refine s_aload_n (pc := 37) hF dJ3_next_37 rfl rfl ?_
    refine s_alen (pc := 38) hF dJ3_next_38 (fun v9 => ?_)
    refine s_icmp_lt (pc := 39) hF 50 dJ3_next_39 rfl ?_ ?_
    · refine s_aload_n (pc := 50) hF dJ3_next_50 rfl rfl ?_
      refine s_iload_n (pc := 51) hF dJ3_next_51 rfl rfl ?_
      refine s_iconst (pc := 52) hF dJ3_next_52 (1 : Int32) (by decide) ?_
      refine s_iadd (pc := 53) hF dJ3_next_53 ?_
      refine s_put (pc := 54) hF (pl_J3_25 hF _) dJ3_next_54 (fun M10 => ?_)
      refine s_aload_n (pc := 57) hF dJ3_next_57 rfl rfl ?_
      refine s_aload_n (pc := 58) hF dJ3_next_58 rfl rfl ?_
      refine s_iload_n (pc := 59) hF dJ3_next_59 rfl rfl ?_
      refine s_dup_x1 (pc := 60) hF dJ3_next_60 rfl (ct _) ?_
      refine s_put (pc := 61) hF (pl_J3_13 hF _) dJ3_next_61 (fun M11 => ?_)
      refine s_aald (pc := 64) 2 (by decide) hF dJ3_next_64 (fun v12 => ?_)
      exact s_aret (pc := 65) hF rfl (Or.inl ⟨_, rfl⟩) dJ3_next_65
    · exact SK.fail
  · exact SK.fail
theorem mJ3_next (a0 : Option Nat) : MT yJ3_next cJ3_next 3 (Option.some (Jvm.ClassFile.FieldType.object "java/lang/Object")) 1 20 eR [va_rf a0] (fJ3_next a0) :=
  MT.of (L0 := [some (va_rf a0), none, none]) (by decide) ⟨ct _, trivial⟩ (Nat.le_of_ble_eq_true rfl) rfl (fun _ _ hF M z => gJ3_next hF a0 M z)
