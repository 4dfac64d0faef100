set_option maxRecDepth 100000
theorem pl_X1_7 {G : Cx} {nL fr lc : Nat} {cc : ByteArray} {ret : Option FieldType} (hF : FX G cc nL RX1 ret "<init>" fr lc) (x9 : Option Nat) : ∀ c ∈ [1], PF G RX1 "<init>" 7 c 1 (va_rf x9) := by
  obtain ⟨⟨p, l, e, R, s, m, args, below, meth, c0⟩, A, D, dA, mi⟩ := G
  obtain ⟨hx, hb, hml, hown, hts, hr, hlk, hK, hnm, hfr, hlc⟩ := hF
  exact List.forall_mem_cons.mpr ⟨⟨RX1, TX1, 34, "StoryColumnsModel", tyX1 1, rfl, in_X1, Nat.le_of_ble_eq_true rfl, Or.inl ⟨(hts _ q1039), Or.inr ⟨rfl, rfl, rfl⟩⟩, fun _ h => h, tyX1_ok 1 (Nat.le_of_ble_eq_true rfl), by cases x9 <;> rfl, by cases x9 <;> rfl, ap_1 hts hK⟩, fun _ h9 => absurd h9 List.not_mem_nil⟩
theorem pl_X1_13 {G : Cx} {nL fr lc : Nat} {cc : ByteArray} {ret : Option FieldType} (hF : FX G cc nL RX1 ret "<init>" fr lc) (x9 : Option Nat) : ∀ c ∈ [1], PF G RX1 "<init>" 13 c 2 (va_rf x9) := by
  obtain ⟨⟨p, l, e, R, s, m, args, below, meth, c0⟩, A, D, dA, mi⟩ := G
  obtain ⟨hx, hb, hml, hown, hts, hr, hlk, hK, hnm, hfr, hlc⟩ := hF
  exact List.forall_mem_cons.mpr ⟨⟨RX1, TX1, 34, "StoryColumnsModel", tyX1 2, rfl, in_X1, Nat.le_of_ble_eq_true rfl, Or.inl ⟨(hts _ q1040), Or.inr ⟨rfl, rfl, rfl⟩⟩, fun _ h => h, tyX1_ok 2 (Nat.le_of_ble_eq_true rfl), by cases x9 <;> rfl, by cases x9 <;> rfl, ap_1 hts hK⟩, fun _ h9 => absurd h9 List.not_mem_nil⟩
theorem pl_X1_16 {G : Cx} {nL fr lc : Nat} {cc : ByteArray} {ret : Option FieldType} (hF : FX G cc nL RX1 ret "<init>" fr lc) (x9 : Option Nat) : ∀ c ∈ [1], PF G RX1 "<init>" 16 c 3 (va_rf x9) := by
  obtain ⟨⟨p, l, e, R, s, m, args, below, meth, c0⟩, A, D, dA, mi⟩ := G
  obtain ⟨hx, hb, hml, hown, hts, hr, hlk, hK, hnm, hfr, hlc⟩ := hF
  exact List.forall_mem_cons.mpr ⟨⟨RX1, TX1, 34, "StoryColumnsModel", tyX1 3, rfl, in_X1, Nat.le_of_ble_eq_true rfl, Or.inl ⟨(hts _ q1041), Or.inr ⟨rfl, rfl, rfl⟩⟩, fun _ h => h, tyX1_ok 3 (Nat.le_of_ble_eq_true rfl), by cases x9 <;> rfl, by cases x9 <;> rfl, ap_1 hts hK⟩, fun _ h9 => absurd h9 List.not_mem_nil⟩
theorem pl_X1_19 {G : Cx} {nL fr lc : Nat} {cc : ByteArray} {ret : Option FieldType} (hF : FX G cc nL RX1 ret "<init>" fr lc) (x9 : Option Nat) : ∀ c ∈ [1], PF G RX1 "<init>" 19 c 4 (va_rf x9) := by
  obtain ⟨⟨p, l, e, R, s, m, args, below, meth, c0⟩, A, D, dA, mi⟩ := G
  obtain ⟨hx, hb, hml, hown, hts, hr, hlk, hK, hnm, hfr, hlc⟩ := hF
  exact List.forall_mem_cons.mpr ⟨⟨RX1, TX1, 34, "StoryColumnsModel", tyX1 4, rfl, in_X1, Nat.le_of_ble_eq_true rfl, Or.inl ⟨(hts _ q1042), Or.inr ⟨rfl, rfl, rfl⟩⟩, fun _ h => h, tyX1_ok 4 (Nat.le_of_ble_eq_true rfl), by cases x9 <;> rfl, by cases x9 <;> rfl, ap_1 hts hK⟩, fun _ h9 => absurd h9 List.not_mem_nil⟩
theorem pl_X1_22 {G : Cx} {nL fr lc : Nat} {cc : ByteArray} {ret : Option FieldType} (hF : FX G cc nL RX1 ret "<init>" fr lc) (x9 : Option Nat) : ∀ c ∈ [1], PF G RX1 "<init>" 22 c 5 (va_rf x9) := by
  obtain ⟨⟨p, l, e, R, s, m, args, below, meth, c0⟩, A, D, dA, mi⟩ := G
  obtain ⟨hx, hb, hml, hown, hts, hr, hlk, hK, hnm, hfr, hlc⟩ := hF
  exact List.forall_mem_cons.mpr ⟨⟨RX1, TX1, 34, "StoryColumnsModel", tyX1 5, rfl, in_X1, Nat.le_of_ble_eq_true rfl, Or.inl ⟨(hts _ q1043), Or.inr ⟨rfl, rfl, rfl⟩⟩, fun _ h => h, tyX1_ok 5 (Nat.le_of_ble_eq_true rfl), by cases x9 <;> rfl, by cases x9 <;> rfl, ap_1 hts hK⟩, fun _ h9 => absurd h9 List.not_mem_nil⟩
theorem pl_X1_25 {G : Cx} {nL fr lc : Nat} {cc : ByteArray} {ret : Option FieldType} (hF : FX G cc nL RX1 ret "<init>" fr lc) (x9 : Option Nat) : ∀ c ∈ [1], PF G RX1 "<init>" 25 c 6 (va_rf x9) := by
  obtain ⟨⟨p, l, e, R, s, m, args, below, meth, c0⟩, A, D, dA, mi⟩ := G
  obtain ⟨hx, hb, hml, hown, hts, hr, hlk, hK, hnm, hfr, hlc⟩ := hF
  exact List.forall_mem_cons.mpr ⟨⟨RX1, TX1, 34, "StoryColumnsModel", tyX1 6, rfl, in_X1, Nat.le_of_ble_eq_true rfl, Or.inl ⟨(hts _ q1044), Or.inr ⟨rfl, rfl, rfl⟩⟩, fun _ h => h, tyX1_ok 6 (Nat.le_of_ble_eq_true rfl), by cases x9 <;> rfl, by cases x9 <;> rfl, ap_1 hts hK⟩, fun _ h9 => absurd h9 List.not_mem_nil⟩
theorem pl_X1_28 {G : Cx} {nL fr lc : Nat} {cc : ByteArray} {ret : Option FieldType} (hF : FX G cc nL RX1 ret "<init>" fr lc) (x9 : Option Nat) : ∀ c ∈ [1], PF G RX1 "<init>" 28 c 7 (va_rf x9) := by
  obtain ⟨⟨p, l, e, R, s, m, args, below, meth, c0⟩, A, D, dA, mi⟩ := G
  obtain ⟨hx, hb, hml, hown, hts, hr, hlk, hK, hnm, hfr, hlc⟩ := hF
  exact List.forall_mem_cons.mpr ⟨⟨RX1, TX1, 34, "StoryColumnsModel", tyX1 7, rfl, in_X1, Nat.le_of_ble_eq_true rfl, Or.inl ⟨(hts _ q1045), Or.inr ⟨rfl, rfl, rfl⟩⟩, fun _ h => h, tyX1_ok 7 (Nat.le_of_ble_eq_true rfl), by cases x9 <;> rfl, by cases x9 <;> rfl, ap_1 hts hK⟩, fun _ h9 => absurd h9 List.not_mem_nil⟩
theorem pl_X1_31 {G : Cx} {nL fr lc : Nat} {cc : ByteArray} {ret : Option FieldType} (hF : FX G cc nL RX1 ret "<init>" fr lc) (x9 : Option Nat) : ∀ c ∈ [1], PF G RX1 "<init>" 31 c 8 (va_rf x9) := by
  obtain ⟨⟨p, l, e, R, s, m, args, below, meth, c0⟩, A, D, dA, mi⟩ := G
  obtain ⟨hx, hb, hml, hown, hts, hr, hlk, hK, hnm, hfr, hlc⟩ := hF
  exact List.forall_mem_cons.mpr ⟨⟨RX1, TX1, 34, "StoryColumnsModel", tyX1 8, rfl, in_X1, Nat.le_of_ble_eq_true rfl, Or.inl ⟨(hts _ q1046), Or.inr ⟨rfl, rfl, rfl⟩⟩, fun _ h => h, tyX1_ok 8 (Nat.le_of_ble_eq_true rfl), by cases x9 <;> rfl, by cases x9 <;> rfl, ap_1 hts hK⟩, fun _ h9 => absurd h9 List.not_mem_nil⟩
theorem pl_X1_34 {G : Cx} {nL fr lc : Nat} {cc : ByteArray} {ret : Option FieldType} (hF : FX G cc nL RX1 ret "<init>" fr lc) (x9 : Option Nat) : ∀ c ∈ [1], PF G RX1 "<init>" 34 c 9 (va_rf x9) := by
  obtain ⟨⟨p, l, e, R, s, m, args, below, meth, c0⟩, A, D, dA, mi⟩ := G
  obtain ⟨hx, hb, hml, hown, hts, hr, hlk, hK, hnm, hfr, hlc⟩ := hF
  exact List.forall_mem_cons.mpr ⟨⟨RX1, TX1, 34, "StoryColumnsModel", tyX1 9, rfl, in_X1, Nat.le_of_ble_eq_true rfl, Or.inl ⟨(hts _ q1047), Or.inr ⟨rfl, rfl, rfl⟩⟩, fun _ h => h, tyX1_ok 9 (Nat.le_of_ble_eq_true rfl), by cases x9 <;> rfl, by cases x9 <;> rfl, ap_1 hts hK⟩, fun _ h9 => absurd h9 List.not_mem_nil⟩
theorem pl_X1_37 {G : Cx} {nL fr lc : Nat} {cc : ByteArray} {ret : Option FieldType} (hF : FX G cc nL RX1 ret "<init>" fr lc) (x9 : Option Nat) : ∀ c ∈ [1], PF G RX1 "<init>" 37 c 11 (va_rf x9) := by
  obtain ⟨⟨p, l, e, R, s, m, args, below, meth, c0⟩, A, D, dA, mi⟩ := G
  obtain ⟨hx, hb, hml, hown, hts, hr, hlk, hK, hnm, hfr, hlc⟩ := hF
  exact List.forall_mem_cons.mpr ⟨⟨RX1, TX1, 34, "StoryColumnsModel", tyX1 11, rfl, in_X1, Nat.le_of_ble_eq_true rfl, Or.inl ⟨(hts _ q1049), Or.inr ⟨rfl, rfl, rfl⟩⟩, fun _ h => h, tyX1_ok 11 (Nat.le_of_ble_eq_true rfl), by cases x9 <;> rfl, by cases x9 <;> rfl, ap_1 hts hK⟩, fun _ h9 => absurd h9 List.not_mem_nil⟩
theorem pl_X1_40 {G : Cx} {nL fr lc : Nat} {cc : ByteArray} {ret : Option FieldType} (hF : FX G cc nL RX1 ret "<init>" fr lc) (x9 : Option Nat) : ∀ c ∈ [1], PF G RX1 "<init>" 40 c 12 (va_rf x9) := by
  obtain ⟨⟨p, l, e, R, s, m, args, below, meth, c0⟩, A, D, dA, mi⟩ := G
  obtain ⟨hx, hb, hml, hown, hts, hr, hlk, hK, hnm, hfr, hlc⟩ := hF
  exact List.forall_mem_cons.mpr ⟨⟨RX1, TX1, 34, "StoryColumnsModel", tyX1 12, rfl, in_X1, Nat.le_of_ble_eq_true rfl, Or.inl ⟨(hts _ q1050), Or.inr ⟨rfl, rfl, rfl⟩⟩, fun _ h => h, tyX1_ok 12 (Nat.le_of_ble_eq_true rfl), by cases x9 <;> rfl, by cases x9 <;> rfl, ap_1 hts hK⟩, fun _ h9 => absurd h9 List.not_mem_nil⟩
theorem pl_X1_43 {G : Cx} {nL fr lc : Nat} {cc : ByteArray} {ret : Option FieldType} (hF : FX G cc nL RX1 ret "<init>" fr lc) (x9 : Option Nat) : ∀ c ∈ [1], PF G RX1 "<init>" 43 c 13 (va_rf x9) := by
  obtain ⟨⟨p, l, e, R, s, m, args, below, meth, c0⟩, A, D, dA, mi⟩ := G
  obtain ⟨hx, hb, hml, hown, hts, hr, hlk, hK, hnm, hfr, hlc⟩ := hF
  exact List.forall_mem_cons.mpr ⟨⟨RX1, TX1, 34, "StoryColumnsModel", tyX1 13, rfl, in_X1, Nat.le_of_ble_eq_true rfl, Or.inl ⟨(hts _ q1051), Or.inr ⟨rfl, rfl, rfl⟩⟩, fun _ h => h, tyX1_ok 13 (Nat.le_of_ble_eq_true rfl), by cases x9 <;> rfl, by cases x9 <;> rfl, ap_1 hts hK⟩, fun _ h9 => absurd h9 List.not_mem_nil⟩
theorem pl_X1_46 {G : Cx} {nL fr lc : Nat} {cc : ByteArray} {ret : Option FieldType} (hF : FX G cc nL RX1 ret "<init>" fr lc) (x9 : Option Nat) : ∀ c ∈ [1], PF G RX1 "<init>" 46 c 14 (va_rf x9) := by
  obtain ⟨⟨p, l, e, R, s, m, args, below, meth, c0⟩, A, D, dA, mi⟩ := G
  obtain ⟨hx, hb, hml, hown, hts, hr, hlk, hK, hnm, hfr, hlc⟩ := hF
  exact List.forall_mem_cons.mpr ⟨⟨RX1, TX1, 34, "StoryColumnsModel", tyX1 14, rfl, in_X1, Nat.le_of_ble_eq_true rfl, Or.inl ⟨(hts _ q1052), Or.inr ⟨rfl, rfl, rfl⟩⟩, fun _ h => h, tyX1_ok 14 (Nat.le_of_ble_eq_true rfl), by cases x9 <;> rfl, by cases x9 <;> rfl, ap_1 hts hK⟩, fun _ h9 => absurd h9 List.not_mem_nil⟩
theorem pl_X1_49 {G : Cx} {nL fr lc : Nat} {cc : ByteArray} {ret : Option FieldType} (hF : FX G cc nL RX1 ret "<init>" fr lc) (x9 : Option Nat) : ∀ c ∈ [1], PF G RX1 "<init>" 49 c 15 (va_rf x9) := by
  obtain ⟨⟨p, l, e, R, s, m, args, below, meth, c0⟩, A, D, dA, mi⟩ := G
  obtain ⟨hx, hb, hml, hown, hts, hr, hlk, hK, hnm, hfr, hlc⟩ := hF
  exact List.forall_mem_cons.mpr ⟨⟨RX1, TX1, 34, "StoryColumnsModel", tyX1 15, rfl, in_X1, Nat.le_of_ble_eq_true rfl, Or.inl ⟨(hts _ q1053), Or.inr ⟨rfl, rfl, rfl⟩⟩, fun _ h => h, tyX1_ok 15 (Nat.le_of_ble_eq_true rfl), by cases x9 <;> rfl, by cases x9 <;> rfl, ap_1 hts hK⟩, fun _ h9 => absurd h9 List.not_mem_nil⟩
theorem pl_X1_52 {G : Cx} {nL fr lc : Nat} {cc : ByteArray} {ret : Option FieldType} (hF : FX G cc nL RX1 ret "<init>" fr lc) (x9 : Option Nat) : ∀ c ∈ [1], PF G RX1 "<init>" 52 c 16 (va_rf x9) := by
  obtain ⟨⟨p, l, e, R, s, m, args, below, meth, c0⟩, A, D, dA, mi⟩ := G
  obtain ⟨hx, hb, hml, hown, hts, hr, hlk, hK, hnm, hfr, hlc⟩ := hF
  exact List.forall_mem_cons.mpr ⟨⟨RX1, TX1, 34, "StoryColumnsModel", tyX1 16, rfl, in_X1, Nat.le_of_ble_eq_true rfl, Or.inl ⟨(hts _ q1054), Or.inr ⟨rfl, rfl, rfl⟩⟩, fun _ h => h, tyX1_ok 16 (Nat.le_of_ble_eq_true rfl), by cases x9 <;> rfl, by cases x9 <;> rfl, ap_1 hts hK⟩, fun _ h9 => absurd h9 List.not_mem_nil⟩
theorem pl_X1_55 {G : Cx} {nL fr lc : Nat} {cc : ByteArray} {ret : Option FieldType} (hF : FX G cc nL RX1 ret "<init>" fr lc) (x9 : Option Nat) : ∀ c ∈ [1], PF G RX1 "<init>" 55 c 17 (va_rf x9) := by
  obtain ⟨⟨p, l, e, R, s, m, args, below, meth, c0⟩, A, D, dA, mi⟩ := G
  obtain ⟨hx, hb, hml, hown, hts, hr, hlk, hK, hnm, hfr, hlc⟩ := hF
  exact List.forall_mem_cons.mpr ⟨⟨RX1, TX1, 34, "StoryColumnsModel", tyX1 17, rfl, in_X1, Nat.le_of_ble_eq_true rfl, Or.inl ⟨(hts _ q1055), Or.inr ⟨rfl, rfl, rfl⟩⟩, fun _ h => h, tyX1_ok 17 (Nat.le_of_ble_eq_true rfl), by cases x9 <;> rfl, by cases x9 <;> rfl, ap_1 hts hK⟩, fun _ h9 => absurd h9 List.not_mem_nil⟩
theorem pl_X1_58 {G : Cx} {nL fr lc : Nat} {cc : ByteArray} {ret : Option FieldType} (hF : FX G cc nL RX1 ret "<init>" fr lc) (x9 : Option Nat) : ∀ c ∈ [1], PF G RX1 "<init>" 58 c 18 (va_rf x9) := by
  obtain ⟨⟨p, l, e, R, s, m, args, below, meth, c0⟩, A, D, dA, mi⟩ := G
  obtain ⟨hx, hb, hml, hown, hts, hr, hlk, hK, hnm, hfr, hlc⟩ := hF
  exact List.forall_mem_cons.mpr ⟨⟨RX1, TX1, 34, "StoryColumnsModel", tyX1 18, rfl, in_X1, Nat.le_of_ble_eq_true rfl, Or.inl ⟨(hts _ q1056), Or.inr ⟨rfl, rfl, rfl⟩⟩, fun _ h => h, tyX1_ok 18 (Nat.le_of_ble_eq_true rfl), by cases x9 <;> rfl, by cases x9 <;> rfl, ap_1 hts hK⟩, fun _ h9 => absurd h9 List.not_mem_nil⟩
theorem pl_X1_61 {G : Cx} {nL fr lc : Nat} {cc : ByteArray} {ret : Option FieldType} (hF : FX G cc nL RX1 ret "<init>" fr lc) (x9 : Option Nat) : ∀ c ∈ [1], PF G RX1 "<init>" 61 c 19 (va_rf x9) := by
  obtain ⟨⟨p, l, e, R, s, m, args, below, meth, c0⟩, A, D, dA, mi⟩ := G
  obtain ⟨hx, hb, hml, hown, hts, hr, hlk, hK, hnm, hfr, hlc⟩ := hF
  exact List.forall_mem_cons.mpr ⟨⟨RX1, TX1, 34, "StoryColumnsModel", tyX1 19, rfl, in_X1, Nat.le_of_ble_eq_true rfl, Or.inl ⟨(hts _ q1057), Or.inr ⟨rfl, rfl, rfl⟩⟩, fun _ h => h, tyX1_ok 19 (Nat.le_of_ble_eq_true rfl), by cases x9 <;> rfl, by cases x9 <;> rfl, ap_1 hts hK⟩, fun _ h9 => absurd h9 List.not_mem_nil⟩
theorem pl_X1_64 {G : Cx} {nL fr lc : Nat} {cc : ByteArray} {ret : Option FieldType} (hF : FX G cc nL RX1 ret "<init>" fr lc) (x9 : Option Nat) : ∀ c ∈ [1], PF G RX1 "<init>" 64 c 20 (va_rf x9) := by
  obtain ⟨⟨p, l, e, R, s, m, args, below, meth, c0⟩, A, D, dA, mi⟩ := G
  obtain ⟨hx, hb, hml, hown, hts, hr, hlk, hK, hnm, hfr, hlc⟩ := hF
  exact List.forall_mem_cons.mpr ⟨⟨RX1, TX1, 34, "StoryColumnsModel", tyX1 20, rfl, in_X1, Nat.le_of_ble_eq_true rfl, Or.inl ⟨(hts _ q1058), Or.inr ⟨rfl, rfl, rfl⟩⟩, fun _ h => h, tyX1_ok 20 (Nat.le_of_ble_eq_true rfl), by cases x9 <;> rfl, by cases x9 <;> rfl, ap_1 hts hK⟩, fun _ h9 => absurd h9 List.not_mem_nil⟩
theorem pl_X1_67 {G : Cx} {nL fr lc : Nat} {cc : ByteArray} {ret : Option FieldType} (hF : FX G cc nL RX1 ret "<init>" fr lc) (x9 : Option Nat) : ∀ c ∈ [1], PF G RX1 "<init>" 67 c 22 (va_rf x9) := by
  obtain ⟨⟨p, l, e, R, s, m, args, below, meth, c0⟩, A, D, dA, mi⟩ := G
  obtain ⟨hx, hb, hml, hown, hts, hr, hlk, hK, hnm, hfr, hlc⟩ := hF
  exact List.forall_mem_cons.mpr ⟨⟨RX1, TX1, 34, "StoryColumnsModel", tyX1 22, rfl, in_X1, Nat.le_of_ble_eq_true rfl, Or.inl ⟨(hts _ q1060), Or.inr ⟨rfl, rfl, rfl⟩⟩, fun _ h => h, tyX1_ok 22 (Nat.le_of_ble_eq_true rfl), by cases x9 <;> rfl, by cases x9 <;> rfl, ap_1 hts hK⟩, fun _ h9 => absurd h9 List.not_mem_nil⟩
theorem pl_X1_70 {G : Cx} {nL fr lc : Nat} {cc : ByteArray} {ret : Option FieldType} (hF : FX G cc nL RX1 ret "<init>" fr lc) (x9 : Option Nat) : ∀ c ∈ [1], PF G RX1 "<init>" 70 c 23 (va_rf x9) := by
  obtain ⟨⟨p, l, e, R, s, m, args, below, meth, c0⟩, A, D, dA, mi⟩ := G
  obtain ⟨hx, hb, hml, hown, hts, hr, hlk, hK, hnm, hfr, hlc⟩ := hF
  exact List.forall_mem_cons.mpr ⟨⟨RX1, TX1, 34, "StoryColumnsModel", tyX1 23, rfl, in_X1, Nat.le_of_ble_eq_true rfl, Or.inl ⟨(hts _ q1061), Or.inr ⟨rfl, rfl, rfl⟩⟩, fun _ h => h, tyX1_ok 23 (Nat.le_of_ble_eq_true rfl), by cases x9 <;> rfl, by cases x9 <;> rfl, ap_1 hts hK⟩, fun _ h9 => absurd h9 List.not_mem_nil⟩
theorem pl_X1_73 {G : Cx} {nL fr lc : Nat} {cc : ByteArray} {ret : Option FieldType} (hF : FX G cc nL RX1 ret "<init>" fr lc) (x9 : Option Nat) : ∀ c ∈ [1], PF G RX1 "<init>" 73 c 24 (va_rf x9) := by
  obtain ⟨⟨p, l, e, R, s, m, args, below, meth, c0⟩, A, D, dA, mi⟩ := G
  obtain ⟨hx, hb, hml, hown, hts, hr, hlk, hK, hnm, hfr, hlc⟩ := hF
  exact List.forall_mem_cons.mpr ⟨⟨RX1, TX1, 34, "StoryColumnsModel", tyX1 24, rfl, in_X1, Nat.le_of_ble_eq_true rfl, Or.inl ⟨(hts _ q1062), Or.inr ⟨rfl, rfl, rfl⟩⟩, fun _ h => h, tyX1_ok 24 (Nat.le_of_ble_eq_true rfl), by cases x9 <;> rfl, by cases x9 <;> rfl, ap_1 hts hK⟩, fun _ h9 => absurd h9 List.not_mem_nil⟩
theorem pl_X1_77 {G : Cx} {nL fr lc : Nat} {cc : ByteArray} {ret : Option FieldType} (hF : FX G cc nL RX1 ret "<init>" fr lc) (x9 : Option Nat) : ∀ c ∈ [1], PF G RX1 "<init>" 77 c 25 (va_rf x9) := by
  obtain ⟨⟨p, l, e, R, s, m, args, below, meth, c0⟩, A, D, dA, mi⟩ := G
  obtain ⟨hx, hb, hml, hown, hts, hr, hlk, hK, hnm, hfr, hlc⟩ := hF
  exact List.forall_mem_cons.mpr ⟨⟨RX1, TX1, 34, "StoryColumnsModel", tyX1 25, rfl, in_X1, Nat.le_of_ble_eq_true rfl, Or.inl ⟨(hts _ q1063), Or.inr ⟨rfl, rfl, rfl⟩⟩, fun _ h => h, tyX1_ok 25 (Nat.le_of_ble_eq_true rfl), by cases x9 <;> rfl, by cases x9 <;> rfl, ap_1 hts hK⟩, fun _ h9 => absurd h9 List.not_mem_nil⟩
theorem pl_X1_80 {G : Cx} {nL fr lc : Nat} {cc : ByteArray} {ret : Option FieldType} (hF : FX G cc nL RX1 ret "<init>" fr lc) (x9 : Option Nat) : ∀ c ∈ [1], PF G RX1 "<init>" 80 c 26 (va_rf x9) := by
  obtain ⟨⟨p, l, e, R, s, m, args, below, meth, c0⟩, A, D, dA, mi⟩ := G
  obtain ⟨hx, hb, hml, hown, hts, hr, hlk, hK, hnm, hfr, hlc⟩ := hF
  exact List.forall_mem_cons.mpr ⟨⟨RX1, TX1, 34, "StoryColumnsModel", tyX1 26, rfl, in_X1, Nat.le_of_ble_eq_true rfl, Or.inl ⟨(hts _ q1064), Or.inr ⟨rfl, rfl, rfl⟩⟩, fun _ h => h, tyX1_ok 26 (Nat.le_of_ble_eq_true rfl), by cases x9 <;> rfl, by cases x9 <;> rfl, ap_1 hts hK⟩, fun _ h9 => absurd h9 List.not_mem_nil⟩
theorem pl_X1_83 {G : Cx} {nL fr lc : Nat} {cc : ByteArray} {ret : Option FieldType} (hF : FX G cc nL RX1 ret "<init>" fr lc) (x9 : Option Nat) : ∀ c ∈ [1], PF G RX1 "<init>" 83 c 27 (va_rf x9) := by
  obtain ⟨⟨p, l, e, R, s, m, args, below, meth, c0⟩, A, D, dA, mi⟩ := G
  obtain ⟨hx, hb, hml, hown, hts, hr, hlk, hK, hnm, hfr, hlc⟩ := hF
  exact List.forall_mem_cons.mpr ⟨⟨RX1, TX1, 34, "StoryColumnsModel", tyX1 27, rfl, in_X1, Nat.le_of_ble_eq_true rfl, Or.inl ⟨(hts _ q1065), Or.inr ⟨rfl, rfl, rfl⟩⟩, fun _ h => h, tyX1_ok 27 (Nat.le_of_ble_eq_true rfl), by cases x9 <;> rfl, by cases x9 <;> rfl, ap_1 hts hK⟩, fun _ h9 => absurd h9 List.not_mem_nil⟩
theorem pl_X1_86 {G : Cx} {nL fr lc : Nat} {cc : ByteArray} {ret : Option FieldType} (hF : FX G cc nL RX1 ret "<init>" fr lc) (x9 : Option Nat) : ∀ c ∈ [1], PF G RX1 "<init>" 86 c 29 (va_rf x9) := by
  obtain ⟨⟨p, l, e, R, s, m, args, below, meth, c0⟩, A, D, dA, mi⟩ := G
  obtain ⟨hx, hb, hml, hown, hts, hr, hlk, hK, hnm, hfr, hlc⟩ := hF
  exact List.forall_mem_cons.mpr ⟨⟨RX1, TX1, 34, "StoryColumnsModel", tyX1 29, rfl, in_X1, Nat.le_of_ble_eq_true rfl, Or.inl ⟨(hts _ q1067), Or.inr ⟨rfl, rfl, rfl⟩⟩, fun _ h => h, tyX1_ok 29 (Nat.le_of_ble_eq_true rfl), by cases x9 <;> rfl, by cases x9 <;> rfl, ap_1 hts hK⟩, fun _ h9 => absurd h9 List.not_mem_nil⟩
theorem pl_X1_89 {G : Cx} {nL fr lc : Nat} {cc : ByteArray} {ret : Option FieldType} (hF : FX G cc nL RX1 ret "<init>" fr lc) (x9 : Option Nat) : ∀ c ∈ [1], PF G RX1 "<init>" 89 c 30 (va_rf x9) := by
  obtain ⟨⟨p, l, e, R, s, m, args, below, meth, c0⟩, A, D, dA, mi⟩ := G
  obtain ⟨hx, hb, hml, hown, hts, hr, hlk, hK, hnm, hfr, hlc⟩ := hF
  exact List.forall_mem_cons.mpr ⟨⟨RX1, TX1, 34, "StoryColumnsModel", tyX1 30, rfl, in_X1, Nat.le_of_ble_eq_true rfl, Or.inl ⟨(hts _ q1068), Or.inr ⟨rfl, rfl, rfl⟩⟩, fun _ h => h, tyX1_ok 30 (Nat.le_of_ble_eq_true rfl), by cases x9 <;> rfl, by cases x9 <;> rfl, ap_1 hts hK⟩, fun _ h9 => absurd h9 List.not_mem_nil⟩
theorem pl_X1_92 {G : Cx} {nL fr lc : Nat} {cc : ByteArray} {ret : Option FieldType} (hF : FX G cc nL RX1 ret "<init>" fr lc) (x9 : Option Nat) : ∀ c ∈ [1], PF G RX1 "<init>" 92 c 31 (va_rf x9) := by
  obtain ⟨⟨p, l, e, R, s, m, args, below, meth, c0⟩, A, D, dA, mi⟩ := G
  obtain ⟨hx, hb, hml, hown, hts, hr, hlk, hK, hnm, hfr, hlc⟩ := hF
  exact List.forall_mem_cons.mpr ⟨⟨RX1, TX1, 34, "StoryColumnsModel", tyX1 31, rfl, in_X1, Nat.le_of_ble_eq_true rfl, Or.inl ⟨(hts _ q1069), Or.inr ⟨rfl, rfl, rfl⟩⟩, fun _ h => h, tyX1_ok 31 (Nat.le_of_ble_eq_true rfl), by cases x9 <;> rfl, by cases x9 <;> rfl, ap_1 hts hK⟩, fun _ h9 => absurd h9 List.not_mem_nil⟩
theorem pl_X1_95 {G : Cx} {nL fr lc : Nat} {cc : ByteArray} {ret : Option FieldType} (hF : FX G cc nL RX1 ret "<init>" fr lc) (x9 : Option Nat) : ∀ c ∈ [1], PF G RX1 "<init>" 95 c 32 (va_rf x9) := by
  obtain ⟨⟨p, l, e, R, s, m, args, below, meth, c0⟩, A, D, dA, mi⟩ := G
  obtain ⟨hx, hb, hml, hown, hts, hr, hlk, hK, hnm, hfr, hlc⟩ := hF
  exact List.forall_mem_cons.mpr ⟨⟨RX1, TX1, 34, "StoryColumnsModel", tyX1 32, rfl, in_X1, Nat.le_of_ble_eq_true rfl, Or.inl ⟨(hts _ q1070), Or.inr ⟨rfl, rfl, rfl⟩⟩, fun _ h => h, tyX1_ok 32 (Nat.le_of_ble_eq_true rfl), by cases x9 <;> rfl, by cases x9 <;> rfl, ap_1 hts hK⟩, fun _ h9 => absurd h9 List.not_mem_nil⟩
def fX1_init (a0 : Option Nat) (M : Mp) (z : Nat) : Rs Unit := if a0 = none then none else
  (nwi 0 (24 : Int32) M z fun M1 z2 =>
(pu M1 a0 [1] 1 (va_rf (some z))).bind fun M3 =>
nwi 0 (24 : Int32) M3 z2 fun M4 z5 =>
(pu M4 a0 [1] 2 (va_rf (some z2))).bind fun M6 =>
nwi 0 (24 : Int32) M6 z5 fun M7 z8 =>
(pu M7 a0 [1] 3 (va_rf (some z5))).bind fun M9 =>
nwi 0 (24 : Int32) M9 z8 fun M10 z11 =>
(pu M10 a0 [1] 4 (va_rf (some z8))).bind fun M12 =>
nwi 0 (24 : Int32) M12 z11 fun M13 z14 =>
(pu M13 a0 [1] 5 (va_rf (some z11))).bind fun M15 =>
nwi 0 (24 : Int32) M15 z14 fun M16 z17 =>
(pu M16 a0 [1] 6 (va_rf (some z14))).bind fun M18 =>
nwi 0 (24 : Int32) M18 z17 fun M19 z20 =>
(pu M19 a0 [1] 7 (va_rf (some z17))).bind fun M21 =>
nwi 0 (48 : Int32) M21 z20 fun M22 z23 =>
(pu M22 a0 [1] 8 (va_rf (some z20))).bind fun M24 =>
nwi 0 (48 : Int32) M24 z23 fun M25 z26 =>
(pu M25 a0 [1] 9 (va_rf (some z23))).bind fun M27 =>
nwi 0 (12 : Int32) M27 z26 fun M28 z29 =>
(pu M28 a0 [1] 11 (va_rf (some z26))).bind fun M30 =>
nwi 0 (12 : Int32) M30 z29 fun M31 z32 =>
(pu M31 a0 [1] 12 (va_rf (some z29))).bind fun M33 =>
nwi 0 (12 : Int32) M33 z32 fun M34 z35 =>
(pu M34 a0 [1] 13 (va_rf (some z32))).bind fun M36 =>
nwi 0 (12 : Int32) M36 z35 fun M37 z38 =>
(pu M37 a0 [1] 14 (va_rf (some z35))).bind fun M39 =>
nwi 0 (12 : Int32) M39 z38 fun M40 z41 =>
(pu M40 a0 [1] 15 (va_rf (some z38))).bind fun M42 =>
nwi 0 (24 : Int32) M42 z41 fun M43 z44 =>
(pu M43 a0 [1] 16 (va_rf (some z41))).bind fun M45 =>
nwi 0 (24 : Int32) M45 z44 fun M46 z47 =>
(pu M46 a0 [1] 17 (va_rf (some z44))).bind fun M48 =>
nwi 0 (24 : Int32) M48 z47 fun M49 z50 =>
(pu M49 a0 [1] 18 (va_rf (some z47))).bind fun M51 =>
nwi 0 (24 : Int32) M51 z50 fun M52 z53 =>
(pu M52 a0 [1] 19 (va_rf (some z50))).bind fun M54 =>
nwi 0 (576 : Int32) M54 z53 fun M55 z56 =>
(pu M55 a0 [1] 20 (va_rf (some z53))).bind fun M57 =>
nwi 0 (24 : Int32) M57 z56 fun M58 z59 =>
(pu M58 a0 [1] 22 (va_rf (some z56))).bind fun M60 =>
nwi 0 (24 : Int32) M60 z59 fun M61 z62 =>
(pu M61 a0 [1] 23 (va_rf (some z59))).bind fun M63 =>
nwi 1 (24 : Int32) M63 z62 fun M64 z65 =>
(pu M64 a0 [1] 24 (va_rf (some z62))).bind fun M66 =>
nwi 0 (24 : Int32) M66 z65 fun M67 z68 =>
(pu M67 a0 [1] 25 (va_rf (some z65))).bind fun M69 =>
nwi 0 (24 : Int32) M69 z68 fun M70 z71 =>
(pu M70 a0 [1] 26 (va_rf (some z68))).bind fun M72 =>
nwi 0 (24 : Int32) M72 z71 fun M73 z74 =>
(pu M73 a0 [1] 27 (va_rf (some z71))).bind fun M75 =>
nwi 0 (25 : Int32) M75 z74 fun M76 z77 =>
(pu M76 a0 [1] 29 (va_rf (some z74))).bind fun M78 =>
nwi 1 (24 : Int32) M78 z77 fun M79 z80 =>
(pu M79 a0 [1] 30 (va_rf (some z77))).bind fun M81 =>
nwi 0 (24 : Int32) M81 z80 fun M82 z83 =>
(pu M82 a0 [1] 31 (va_rf (some z80))).bind fun M84 =>
nwi 0 (24 : Int32) M84 z83 fun M85 z86 =>
(pu M85 a0 [1] 32 (va_rf (some z83))).bind fun M87 =>
some ((), M87, 0, 0))
theorem gX1_init {G : Cx} {F : Option Value × Mp × Nat} (hF : FX G cX1_init 1 RX1 (Option.none : Option Jvm.ClassFile.FieldType) "<init>" 1 20) (a0 : Option Nat) (M : Mp) (z : Nat) : SK G F 1 eV 0 [some (va_rf a0)] [] M z (fX1_init a0 M z) := by
  unfold fX1_init
  refine s_aload_n (pc := 0) hF dX1_init_0 rfl rfl ?_
  refine s_oinit (pc := 1) hF q1037 ⟨Nat.le_of_ble_eq_true rfl, Nat.le_of_ble_eq_true rfl⟩ ⟨trivial, Nat.le_of_ble_eq_true rfl⟩ dX1_init_1 ?_
  refine s_aload_n (pc := 4) hF dX1_init_4 rfl rfl ?_
  refine s_bipush (pc := 5) hF dX1_init_5 (24 : Int32) (by decide) ?_
  refine s_nwi (pc := 7) hF 0 .int dX1_init_7 (by decide) q1141 (fun M1 z2 => ?_)
  refine s_put (pc := 9) hF (pl_X1_7 hF _) dX1_init_9 (fun M3 => ?_)
  refine s_aload_n (pc := 12) hF dX1_init_12 rfl rfl ?_
  refine s_bipush (pc := 13) hF dX1_init_13 (24 : Int32) (by decide) ?_
  refine s_nwi (pc := 15) hF 0 .int dX1_init_15 (by decide) q1141 (fun M4 z5 => ?_)
  refine s_put (pc := 17) hF (pl_X1_13 hF _) dX1_init_17 (fun M6 => ?_)
  refine s_aload_n (pc := 20) hF dX1_init_20 rfl rfl ?_
  refine s_bipush (pc := 21) hF dX1_init_21 (24 : Int32) (by decide) ?_
  refine s_nwi (pc := 23) hF 0 .int dX1_init_23 (by decide) q1141 (fun M7 z8 => ?_)
  refine s_put (pc := 25) hF (pl_X1_16 hF _) dX1_init_25 (fun M9 => ?_)
  refine s_aload_n (pc := 28) hF dX1_init_28 rfl rfl ?_
  refine s_bipush (pc := 29) hF dX1_init_29 (24 : Int32) (by decide) ?_
  refine s_nwi (pc := 31) hF 0 .int dX1_init_31 (by decide) q1141 (fun M10 z11 => ?_)
  refine s_put (pc := 33) hF (pl_X1_19 hF _) dX1_init_33 (fun M12 => ?_)
  refine s_aload_n (pc := 36) hF dX1_init_36 rfl rfl ?_
  refine s_bipush (pc := 37) hF dX1_init_37 (24 : Int32) (by decide) ?_
  refine s_nwi (pc := 39) hF 0 .int dX1_init_39 (by decide) q1141 (fun M13 z14 => ?_)
  refine s_put (pc := 41) hF (pl_X1_22 hF _) dX1_init_41 (fun M15 => ?_)
  refine s_aload_n (pc := 44) hF dX1_init_44 rfl rfl ?_
  refine s_bipush (pc := 45) hF dX1_init_45 (24 : Int32) (by decide) ?_
  refine s_nwi (pc := 47) hF 0 .int dX1_init_47 (by decide) q1141 (fun M16 z17 => ?_)
  refine s_put (pc := 49) hF (pl_X1_25 hF _) dX1_init_49 (fun M18 => ?_)
  refine s_aload_n (pc := 52) hF dX1_init_52 rfl rfl ?_
  refine s_bipush (pc := 53) hF dX1_init_53 (24 : Int32) (by decide) ?_
  refine s_nwi (pc := 55) hF 0 .int dX1_init_55 (by decide) q1141 (fun M19 z20 => ?_)
  refine s_put (pc := 57) hF (pl_X1_28 hF _) dX1_init_57 (fun M21 => ?_)
  refine s_aload_n (pc := 60) hF dX1_init_60 rfl rfl ?_
  refine s_bipush (pc := 61) hF dX1_init_61 (48 : Int32) (by decide) ?_
  refine s_nwi (pc := 63) hF 0 .int dX1_init_63 (by decide) q1141 (fun M22 z23 => ?_)
  refine s_put (pc := 65) hF (pl_X1_31 hF _) dX1_init_65 (fun M24 => ?_)
  refine s_aload_n (pc := 68) hF dX1_init_68 rfl rfl ?_
  refine s_bipush (pc := 69) hF dX1_init_69 (48 : Int32) (by decide) ?_
  refine s_nwi (pc := 71) hF 0 .int dX1_init_71 (by decide) q1141 (fun M25 z26 => ?_)
  refine s_put (pc := 73) hF (pl_X1_34 hF _) dX1_init_73 (fun M27 => ?_)
  refine s_aload_n (pc := 76) hF dX1_init_76 rfl rfl ?_
  refine s_bipush (pc := 77) hF dX1_init_77 (12 : Int32) (by decide) ?_
  refine s_nwi (pc := 79) hF 0 .int dX1_init_79 (by decide) q1141 (fun M28 z29 => ?_)
  refine s_put (pc := 81) hF (pl_X1_37 hF _) dX1_init_81 (fun M30 => ?_)
  refine s_aload_n (pc := 84) hF dX1_init_84 rfl rfl ?_
  refine s_bipush (pc := 85) hF dX1_init_85 (12 : Int32) (by decide) ?_
  refine s_nwi (pc := 87) hF 0 .int dX1_init_87 (by decide) q1141 (fun M31 z32 => ?_)
  refine s_put (pc := 89) hF (pl_X1_40 hF _) dX1_init_89 (fun M33 => ?_)
  refine s_aload_n (pc := 92) hF dX1_init_92 rfl rfl ?_
  refine s_bipush (pc := 93) hF dX1_init_93 (12 : Int32) (by decide) ?_
  refine s_nwi (pc := 95) hF 0 .int dX1_init_95 (by decide) q1141 (fun M34 z35 => ?_)
  refine s_put (pc := 97) hF (pl_X1_43 hF _) dX1_init_97 (fun M36 => ?_)
  refine s_aload_n (pc := 100) hF dX1_init_100 rfl rfl ?_
  refine s_bipush (pc := 101) hF dX1_init_101 (12 : Int32) (by decide) ?_
  refine s_nwi (pc := 103) hF 0 .int dX1_init_103 (by decide) q1141 (fun M37 z38 => ?_)
  refine s_put (pc := 105) hF (pl_X1_46 hF _) dX1_init_105 (fun M39 => ?_)
  refine s_aload_n (pc := 108) hF dX1_init_108 rfl rfl ?_
  refine s_bipush (pc := 109) hF dX1_init_109 (12 : Int32) (by decide) ?_
  refine s_nwi (pc := 111) hF 0 .int dX1_init_111 (by decide) q1141 (fun M40 z41 => ?_)
  refine s_put (pc := 113) hF (pl_X1_49 hF _) dX1_init_113 (fun M42 => ?_)
  refine s_aload_n (pc := 116) hF dX1_init_116 rfl rfl ?_
  refine s_bipush (pc := 117) hF dX1_init_117 (24 : Int32) (by decide) ?_
  refine s_nwi (pc := 119) hF 0 .int dX1_init_119 (by decide) q1141 (fun M43 z44 => ?_)
  refine s_put (pc := 121) hF (pl_X1_52 hF _) dX1_init_121 (fun M45 => ?_)
  refine s_aload_n (pc := 124) hF dX1_init_124 rfl rfl ?_
  refine s_bipush (pc := 125) hF dX1_init_125 (24 : Int32) (by decide) ?_
  refine s_nwi (pc := 127) hF 0 .int dX1_init_127 (by decide) q1141 (fun M46 z47 => ?_)
  refine s_put (pc := 129) hF (pl_X1_55 hF _) dX1_init_129 (fun M48 => ?_)
  refine s_aload_n (pc := 132) hF dX1_init_132 rfl rfl ?_
  refine s_bipush (pc := 133) hF dX1_init_133 (24 : Int32) (by decide) ?_
  refine s_nwi (pc := 135) hF 0 .int dX1_init_135 (by decide) q1141 (fun M49 z50 => ?_)
  refine s_put (pc := 137) hF (pl_X1_58 hF _) dX1_init_137 (fun M51 => ?_)
  refine s_aload_n (pc := 140) hF dX1_init_140 rfl rfl ?_
  refine s_bipush (pc := 141) hF dX1_init_141 (24 : Int32) (by decide) ?_
  refine s_nwi (pc := 143) hF 0 .int dX1_init_143 (by decide) q1141 (fun M52 z53 => ?_)
  refine s_put (pc := 145) hF (pl_X1_61 hF _) dX1_init_145 (fun M54 => ?_)
  refine s_aload_n (pc := 148) hF dX1_init_148 rfl rfl ?_
  refine s_sipush (pc := 149) hF dX1_init_149 (576 : Int32) (by decide) ?_
  refine s_nwi (pc := 152) hF 0 .int dX1_init_152 (by decide) q1141 (fun M55 z56 => ?_)
  refine s_put (pc := 154) hF (pl_X1_64 hF _) dX1_init_154 (fun M57 => ?_)
  refine s_aload_n (pc := 157) hF dX1_init_157 rfl rfl ?_
  refine s_bipush (pc := 158) hF dX1_init_158 (24 : Int32) (by decide) ?_
  refine s_nwi (pc := 160) hF 0 .int dX1_init_160 (by decide) q1141 (fun M58 z59 => ?_)
  refine s_put (pc := 162) hF (pl_X1_67 hF _) dX1_init_162 (fun M60 => ?_)
  refine s_aload_n (pc := 165) hF dX1_init_165 rfl rfl ?_
  refine s_bipush (pc := 166) hF dX1_init_166 (24 : Int32) (by decide) ?_
  refine s_nwi (pc := 168) hF 0 .int dX1_init_168 (by decide) q1141 (fun M61 z62 => ?_)
  refine s_put (pc := 170) hF (pl_X1_70 hF _) dX1_init_170 (fun M63 => ?_)
  refine s_aload_n (pc := 173) hF dX1_init_173 rfl rfl ?_
  refine s_bipush (pc := 174) hF dX1_init_174 (24 : Int32) (by decide) ?_
  refine s_nwi (pc := 176) hF 1 .boolean dX1_init_176 (by decide) q1142 (fun M64 z65 => ?_)
  refine s_put (pc := 178) hF (pl_X1_73 hF _) dX1_init_178 (fun M66 => ?_)
  refine s_aload_n (pc := 181) hF dX1_init_181 rfl rfl ?_
  refine s_bipush (pc := 182) hF dX1_init_182 (24 : Int32) (by decide) ?_
  refine s_nwi (pc := 184) hF 0 .int dX1_init_184 (by decide) q1141 (fun M67 z68 => ?_)
  refine s_put (pc := 186) hF (pl_X1_77 hF _) dX1_init_186 (fun M69 => ?_)
  refine s_aload_n (pc := 189) hF dX1_init_189 rfl rfl ?_
  refine s_bipush (pc := 190) hF dX1_init_190 (24 : Int32) (by decide) ?_
  refine s_nwi (pc := 192) hF 0 .int dX1_init_192 (by decide) q1141 (fun M70 z71 => ?_)
  refine s_put (pc := 194) hF (pl_X1_80 hF _) dX1_init_194 (fun M72 => ?_)
  refine s_aload_n (pc := 197) hF dX1_init_197 rfl rfl ?_
  refine s_bipush (pc := 198) hF dX1_init_198 (24 : Int32) (by decide) ?_
  refine s_nwi (pc := 200) hF 0 .int dX1_init_200 (by decide) q1141 (fun M73 z74 => ?_)
  refine s_put (pc := 202) hF (pl_X1_83 hF _) dX1_init_202 (fun M75 => ?_)
  refine s_aload_n (pc := 205) hF dX1_init_205 rfl rfl ?_
  refine s_bipush (pc := 206) hF dX1_init_206 (25 : Int32) (by decide) ?_
  refine s_nwi (pc := 208) hF 0 .int dX1_init_208 (by decide) q1141 (fun M76 z77 => ?_)
  refine s_put (pc := 210) hF (pl_X1_86 hF _) dX1_init_210 (fun M78 => ?_)
  refine s_aload_n (pc := 213) hF dX1_init_213 rfl rfl ?_
  refine s_bipush (pc := 214) hF dX1_init_214 (24 : Int32) (by decide) ?_
  refine s_nwi (pc := 216) hF 1 .boolean dX1_init_216 (by decide) q1142 (fun M79 z80 => ?_)
  refine s_put (pc := 218) hF (pl_X1_89 hF _) dX1_init_218 (fun M81 => ?_)
  refine s_aload_n (pc := 221) hF dX1_init_221 rfl rfl ?_
  refine s_bipush (pc := 222) hF dX1_init_222 (24 : Int32) (by decide) ?_
  refine s_nwi (pc := 224) hF 0 .int dX1_init_224 (by decide) q1141 (fun M82 z83 => ?_)
  refine s_put (pc := 226) hF (pl_X1_92 hF _) dX1_init_226 (fun M84 => ?_)
  refine s_aload_n (pc := 229) hF dX1_init_229 rfl rfl ?_
  refine s_bipush (pc := 230) hF dX1_init_230 (24 : Int32) (by decide) ?_
  refine s_nwi (pc := 232) hF 0 .int dX1_init_232 (by decide) q1141 (fun M85 z86 => ?_)
  refine s_put (pc := 234) hF (pl_X1_95 hF _) dX1_init_234 (fun M87 => ?_)
  exact s_vret (pc := 237) hF dX1_init_237
theorem mX1_init (a0 : Option Nat) : MT yX1_init cX1_init 1 (Option.none : Option Jvm.ClassFile.FieldType) 1 20 eV [va_rf a0] (fX1_init a0) :=
  MT.of (L0 := [some (va_rf a0)]) (by decide) ⟨ct _, trivial⟩ (Nat.le_of_ble_eq_true rfl) rfl (fun _ _ hF M z => gX1_init hF a0 M z)

def fX1_within (a0 : Int32) (a1 : Int32) (a2 : Int32) (M : Mp) (z : Nat) : Rs Int32 := if a0 < a1 then
  (some ((0 : Int32), M, 0, 0))
else
  (if a2 < a0 then
  (some ((0 : Int32), M, 0, 0))
else
  (some ((1 : Int32), M, 0, 0)))
theorem gX1_within {G : Cx} {F : Option Value × Mp × Nat} (hF : FX G cX1_within 3 RX1 (Option.some Jvm.ClassFile.FieldType.boolean) "within" 0 0) (a0 : Int32) (a1 : Int32) (a2 : Int32) (M : Mp) (z : Nat) : SK G F 3 eI 0 [some (.int a0), some (.int a1), some (.int a2)] [] M z (fX1_within a0 a1 a2 M z) := by
  unfold fX1_within
  refine s_iload_n (pc := 0) hF dX1_within_0 rfl rfl ?_
  refine s_iload_n (pc := 1) hF dX1_within_1 rfl rfl ?_
  refine s_icmp_lt (pc := 2) hF 14 dX1_within_2 rfl ?_ ?_
  · refine s_iconst (pc := 14) hF dX1_within_14 (0 : Int32) (by decide) ?_
    exact s_zretL (pc := 15) hF dX1_within_15 (by decide)
  · refine s_iload_n (pc := 5) hF dX1_within_5 rfl rfl ?_
    refine s_iload_n (pc := 6) hF dX1_within_6 rfl rfl ?_
    refine s_icmp_gt (pc := 7) hF 14 dX1_within_7 rfl ?_ ?_
    · refine s_iconst (pc := 14) hF dX1_within_14 (0 : Int32) (by decide) ?_
      exact s_zretL (pc := 15) hF dX1_within_15 (by decide)
    · refine s_iconst (pc := 10) hF dX1_within_10 (1 : Int32) (by decide) ?_
      refine s_goto (pc := 11) hF 15 dX1_within_11 rfl ?_
      exact s_zretL (pc := 15) hF dX1_within_15 (by decide)
theorem mX1_within (a0 : Int32) (a1 : Int32) (a2 : Int32) : MT yX1_within cX1_within 3 (Option.some Jvm.ClassFile.FieldType.boolean) 0 0 eI [.int a0, .int a1, .int a2] (fX1_within a0 a1 a2) :=
  MT.of (L0 := [some (.int a0), some (.int a1), some (.int a2)]) (by decide) ⟨rfl, ⟨rfl, ⟨rfl, trivial⟩⟩⟩ (Nat.le_of_ble_eq_true rfl) rfl (fun _ _ hF M z => gX1_within hF a0 a1 a2 M z)

theorem fl_X1_16 {G : Cx} {nL fr lc : Nat} {cc : ByteArray} {ret : Option FieldType} {nm : String} (hF : FX G cc nL RX1 ret nm fr lc) : ∀ c ∈ [1], GF G RX1 16 c 3 := by
  obtain ⟨⟨p, l, e, R, s, m, args, below, meth, c0⟩, A, D, dA, mi⟩ := G
  obtain ⟨hx, hb, hml, hown, hts, hr, hlk, hK, hnm, hfr, hlc⟩ := hF
  exact List.forall_mem_cons.mpr ⟨⟨RX1, TX1, 34, "StoryColumnsModel", rfl, in_X1, Nat.le_of_ble_eq_true rfl, Or.inl (hts _ q1041), fun _ h => h⟩, fun _ h9 => absurd h9 List.not_mem_nil⟩
theorem fl_X1_19 {G : Cx} {nL fr lc : Nat} {cc : ByteArray} {ret : Option FieldType} {nm : String} (hF : FX G cc nL RX1 ret nm fr lc) : ∀ c ∈ [1], GF G RX1 19 c 4 := by
  obtain ⟨⟨p, l, e, R, s, m, args, below, meth, c0⟩, A, D, dA, mi⟩ := G
  obtain ⟨hx, hb, hml, hown, hts, hr, hlk, hK, hnm, hfr, hlc⟩ := hF
  exact List.forall_mem_cons.mpr ⟨⟨RX1, TX1, 34, "StoryColumnsModel", rfl, in_X1, Nat.le_of_ble_eq_true rfl, Or.inl (hts _ q1042), fun _ h => h⟩, fun _ h9 => absurd h9 List.not_mem_nil⟩
theorem fl_X1_22 {G : Cx} {nL fr lc : Nat} {cc : ByteArray} {ret : Option FieldType} {nm : String} (hF : FX G cc nL RX1 ret nm fr lc) : ∀ c ∈ [1], GF G RX1 22 c 5 := by
  obtain ⟨⟨p, l, e, R, s, m, args, below, meth, c0⟩, A, D, dA, mi⟩ := G
  obtain ⟨hx, hb, hml, hown, hts, hr, hlk, hK, hnm, hfr, hlc⟩ := hF
  exact List.forall_mem_cons.mpr ⟨⟨RX1, TX1, 34, "StoryColumnsModel", rfl, in_X1, Nat.le_of_ble_eq_true rfl, Or.inl (hts _ q1043), fun _ h => h⟩, fun _ h9 => absurd h9 List.not_mem_nil⟩
theorem fl_X1_25 {G : Cx} {nL fr lc : Nat} {cc : ByteArray} {ret : Option FieldType} {nm : String} (hF : FX G cc nL RX1 ret nm fr lc) : ∀ c ∈ [1], GF G RX1 25 c 6 := by
  obtain ⟨⟨p, l, e, R, s, m, args, below, meth, c0⟩, A, D, dA, mi⟩ := G
  obtain ⟨hx, hb, hml, hown, hts, hr, hlk, hK, hnm, hfr, hlc⟩ := hF
  exact List.forall_mem_cons.mpr ⟨⟨RX1, TX1, 34, "StoryColumnsModel", rfl, in_X1, Nat.le_of_ble_eq_true rfl, Or.inl (hts _ q1044), fun _ h => h⟩, fun _ h9 => absurd h9 List.not_mem_nil⟩
def fX1_isMeeting (a0 : Option Nat) (a1 : Int32) (a2 : Int32) (a3 : Int32) (a4 : Int32) (a5 : Int32) (M : Mp) (z : Nat) : Rs Int32 := (gr M a0 [1] 3).bind fun v1 =>
(ai M 0 v1 a1).bind fun v2 =>
if a3 < v2 then
  (some ((0 : Int32), M, 0, 0))
else
  ((gr M a0 [1] 4).bind fun v3 =>
(ai M 0 v3 a1).bind fun v4 =>
if v4 < a2 then
  (some ((0 : Int32), M, 0, 0))
else
  ((gr M a0 [1] 5).bind fun v5 =>
(ai M 0 v5 a1).bind fun v6 =>
if a5 < v6 then
  (some ((0 : Int32), M, 0, 0))
else
  ((gr M a0 [1] 6).bind fun v7 =>
(ai M 0 v7 a1).bind fun v8 =>
if v8 < a4 then
  (some ((0 : Int32), M, 0, 0))
else
  (some ((1 : Int32), M, 0, 0)))))
theorem gX1_isMeeting {G : Cx} {F : Option Value × Mp × Nat} (hF : FX G cX1_isMeeting 6 RX1 (Option.some Jvm.ClassFile.FieldType.boolean) "isMeeting" 0 0) (a0 : Option Nat) (a1 : Int32) (a2 : Int32) (a3 : Int32) (a4 : Int32) (a5 : Int32) (M : Mp) (z : Nat) : SK G F 6 eI 0 [some (va_rf a0), some (.int a1), some (.int a2), some (.int a3), some (.int a4), some (.int a5)] [] M z (fX1_isMeeting a0 a1 a2 a3 a4 a5 M z) := by
  unfold fX1_isMeeting
  refine s_aload_n (pc := 0) hF dX1_isMeeting_0 rfl rfl ?_
  refine s_getr (pc := 1) hF (fl_X1_16 hF) dX1_isMeeting_1 (fun v1 => ?_)
  refine s_iload_n (pc := 4) hF dX1_isMeeting_4 rfl rfl ?_
  refine s_iald (pc := 5) hF dX1_isMeeting_5 (fun v2 => ?_)
  refine s_iload_n (pc := 6) hF dX1_isMeeting_6 rfl rfl ?_
  refine s_icmp_gt (pc := 7) hF 46 dX1_isMeeting_7 rfl ?_ ?_
  · refine s_iconst (pc := 46) hF dX1_isMeeting_46 (0 : Int32) (by decide) ?_
    exact s_zretL (pc := 47) hF dX1_isMeeting_47 (by decide)
  · refine s_aload_n (pc := 10) hF dX1_isMeeting_10 rfl rfl ?_
    refine s_getr (pc := 11) hF (fl_X1_19 hF) dX1_isMeeting_11 (fun v3 => ?_)
    refine s_iload_n (pc := 14) hF dX1_isMeeting_14 rfl rfl ?_
    refine s_iald (pc := 15) hF dX1_isMeeting_15 (fun v4 => ?_)
    refine s_iload_n (pc := 16) hF dX1_isMeeting_16 rfl rfl ?_
    refine s_icmp_lt (pc := 17) hF 46 dX1_isMeeting_17 rfl ?_ ?_
    · refine s_iconst (pc := 46) hF dX1_isMeeting_46 (0 : Int32) (by decide) ?_
      exact s_zretL (pc := 47) hF dX1_isMeeting_47 (by decide)
    · refine s_aload_n (pc := 20) hF dX1_isMeeting_20 rfl rfl ?_
      refine s_getr (pc := 21) hF (fl_X1_22 hF) dX1_isMeeting_21 (fun v5 => ?_)
      refine s_iload_n (pc := 24) hF dX1_isMeeting_24 rfl rfl ?_
      refine s_iald (pc := 25) hF dX1_isMeeting_25 (fun v6 => ?_)
      refine s_iload (pc := 26) hF dX1_isMeeting_26 rfl ?_
      refine s_icmp_gt (pc := 28) hF 46 dX1_isMeeting_28 rfl ?_ ?_
      · refine s_iconst (pc := 46) hF dX1_isMeeting_46 (0 : Int32) (by decide) ?_
        exact s_zretL (pc := 47) hF dX1_isMeeting_47 (by decide)
      · refine s_aload_n (pc := 31) hF dX1_isMeeting_31 rfl rfl ?_
        refine s_getr (pc := 32) hF (fl_X1_25 hF) dX1_isMeeting_32 (fun v7 => ?_)
        refine s_iload_n (pc := 35) hF dX1_isMeeting_35 rfl rfl ?_
        refine s_iald (pc := 36) hF dX1_isMeeting_36 (fun v8 => ?_)
        refine s_iload (pc := 37) hF dX1_isMeeting_37 rfl ?_
        refine s_icmp_lt (pc := 39) hF 46 dX1_isMeeting_39 rfl ?_ ?_
        · refine s_iconst (pc := 46) hF dX1_isMeeting_46 (0 : Int32) (by decide) ?_
          exact s_zretL (pc := 47) hF dX1_isMeeting_47 (by decide)
        · refine s_iconst (pc := 42) hF dX1_isMeeting_42 (1 : Int32) (by decide) ?_
          refine s_goto (pc := 43) hF 47 dX1_isMeeting_43 rfl ?_
          exact s_zretL (pc := 47) hF dX1_isMeeting_47 (by decide)
theorem mX1_isMeeting (a0 : Option Nat) (a1 : Int32) (a2 : Int32) (a3 : Int32) (a4 : Int32) (a5 : Int32) : MT yX1_isMeeting cX1_isMeeting 6 (Option.some Jvm.ClassFile.FieldType.boolean) 0 0 eI [va_rf a0, .int a1, .int a2, .int a3, .int a4, .int a5] (fX1_isMeeting a0 a1 a2 a3 a4 a5) :=
  MT.of (L0 := [some (va_rf a0), some (.int a1), some (.int a2), some (.int a3), some (.int a4), some (.int a5)]) (by decide) ⟨ct _, ⟨rfl, ⟨rfl, ⟨rfl, ⟨rfl, ⟨rfl, trivial⟩⟩⟩⟩⟩⟩ (Nat.le_of_ble_eq_true rfl) rfl (fun _ _ hF M z => gX1_isMeeting hF a0 a1 a2 a3 a4 a5 M z)

theorem fl_X1_98 {G : Cx} {nL fr lc : Nat} {cc : ByteArray} {ret : Option FieldType} {nm : String} (hF : FX G cc nL RX1 ret nm fr lc) : ∀ c ∈ [1], GF G RX1 98 c 0 := by
  obtain ⟨⟨p, l, e, R, s, m, args, below, meth, c0⟩, A, D, dA, mi⟩ := G
  obtain ⟨hx, hb, hml, hown, hts, hr, hlk, hK, hnm, hfr, hlc⟩ := hF
  exact List.forall_mem_cons.mpr ⟨⟨RX1, TX1, 34, "StoryColumnsModel", rfl, in_X1, Nat.le_of_ble_eq_true rfl, Or.inl (hts _ q1038), fun _ h => h⟩, fun _ h9 => absurd h9 List.not_mem_nil⟩
theorem fl_X1_7 {G : Cx} {nL fr lc : Nat} {cc : ByteArray} {ret : Option FieldType} {nm : String} (hF : FX G cc nL RX1 ret nm fr lc) : ∀ c ∈ [1], GF G RX1 7 c 1 := by
  obtain ⟨⟨p, l, e, R, s, m, args, below, meth, c0⟩, A, D, dA, mi⟩ := G
  obtain ⟨hx, hb, hml, hown, hts, hr, hlk, hK, hnm, hfr, hlc⟩ := hF
  exact List.forall_mem_cons.mpr ⟨⟨RX1, TX1, 34, "StoryColumnsModel", rfl, in_X1, Nat.le_of_ble_eq_true rfl, Or.inl (hts _ q1039), fun _ h => h⟩, fun _ h9 => absurd h9 List.not_mem_nil⟩
theorem fl_X1_13 {G : Cx} {nL fr lc : Nat} {cc : ByteArray} {ret : Option FieldType} {nm : String} (hF : FX G cc nL RX1 ret nm fr lc) : ∀ c ∈ [1], GF G RX1 13 c 2 := by
  obtain ⟨⟨p, l, e, R, s, m, args, below, meth, c0⟩, A, D, dA, mi⟩ := G
  obtain ⟨hx, hb, hml, hown, hts, hr, hlk, hK, hnm, hfr, hlc⟩ := hF
  exact List.forall_mem_cons.mpr ⟨⟨RX1, TX1, 34, "StoryColumnsModel", rfl, in_X1, Nat.le_of_ble_eq_true rfl, Or.inl (hts _ q1040), fun _ h => h⟩, fun _ h9 => absurd h9 List.not_mem_nil⟩
theorem fl_X1_28 {G : Cx} {nL fr lc : Nat} {cc : ByteArray} {ret : Option FieldType} {nm : String} (hF : FX G cc nL RX1 ret nm fr lc) : ∀ c ∈ [1], GF G RX1 28 c 7 := by
  obtain ⟨⟨p, l, e, R, s, m, args, below, meth, c0⟩, A, D, dA, mi⟩ := G
  obtain ⟨hx, hb, hml, hown, hts, hr, hlk, hK, hnm, hfr, hlc⟩ := hF
  exact List.forall_mem_cons.mpr ⟨⟨RX1, TX1, 34, "StoryColumnsModel", rfl, in_X1, Nat.le_of_ble_eq_true rfl, Or.inl (hts _ q1045), fun _ h => h⟩, fun _ h9 => absurd h9 List.not_mem_nil⟩
theorem fl_X1_31 {G : Cx} {nL fr lc : Nat} {cc : ByteArray} {ret : Option FieldType} {nm : String} (hF : FX G cc nL RX1 ret nm fr lc) : ∀ c ∈ [1], GF G RX1 31 c 8 := by
  obtain ⟨⟨p, l, e, R, s, m, args, below, meth, c0⟩, A, D, dA, mi⟩ := G
  obtain ⟨hx, hb, hml, hown, hts, hr, hlk, hK, hnm, hfr, hlc⟩ := hF
  exact List.forall_mem_cons.mpr ⟨⟨RX1, TX1, 34, "StoryColumnsModel", rfl, in_X1, Nat.le_of_ble_eq_true rfl, Or.inl (hts _ q1046), fun _ h => h⟩, fun _ h9 => absurd h9 List.not_mem_nil⟩
theorem pl_X1_98 {G : Cx} {nL fr lc : Nat} {cc : ByteArray} {ret : Option FieldType} {nm : String} (hF : FX G cc nL RX1 ret nm fr lc) (x9 : Int32) : ∀ c ∈ [1], PF G RX1 nm 98 c 0 (.int x9) := by
  obtain ⟨⟨p, l, e, R, s, m, args, below, meth, c0⟩, A, D, dA, mi⟩ := G
  obtain ⟨hx, hb, hml, hown, hts, hr, hlk, hK, hnm, hfr, hlc⟩ := hF
  exact List.forall_mem_cons.mpr ⟨⟨RX1, TX1, 34, "StoryColumnsModel", tyX1 0, rfl, in_X1, Nat.le_of_ble_eq_true rfl, Or.inl ⟨(hts _ q1038), Or.inl rfl⟩, fun _ h => h, tyX1_ok 0 (Nat.le_of_ble_eq_true rfl), rfl, rfl, ap_1 hts hK⟩, fun _ h9 => absurd h9 List.not_mem_nil⟩
theorem cw_X1_isMeeting : CWm yX1_isMeeting cX1_isMeeting 6 (Option.some Jvm.ClassFile.FieldType.boolean) 5 := ⟨q1153, q63, by decide +kernel, by decide +kernel, by decide +kernel⟩
theorem cw_X1_within : CWm yX1_within cX1_within 3 (Option.some Jvm.ClassFile.FieldType.boolean) 3 := ⟨q1149, q63, by decide +kernel, by decide +kernel, by decide +kernel⟩
def fX1_block_J219 (l0 : Option Nat) (s0 : Option Nat) (s1 : Int32) (s2 : Int32) (M : Mp) (z : Nat) : Rs Int32 := (si M 0 s0 s1 s2).bind fun M1 =>
(gr M1 l0 [1] 8).bind fun v2 =>
(gi M1 l0 [1] 0).bind fun v3 =>
(si M1 0 v2 ((2 : Int32) * v3) (-9 : Int32)).bind fun M4 =>
(gr M4 l0 [1] 8).bind fun v5 =>
(gi M4 l0 [1] 0).bind fun v6 =>
(si M4 0 v5 (((2 : Int32) * v6) + (1 : Int32)) (-9 : Int32)).bind fun M7 =>
(gi M7 l0 [1] 0).bind fun v8 =>
(pu M7 l0 [1] 0 (.int (v8 + (1 : Int32)))).bind fun M9 =>
(gi M9 l0 [1] 0).bind fun v10 =>
some ((v10 - (1 : Int32)), M9, 0, 0)

theorem gX1_block_J219 {G : Cx} {F : Option Value × Mp × Nat} (hF : FX G cX1_block 9 RX1 (Option.some Jvm.ClassFile.FieldType.int) "block" 1 25) (l0 : Option Nat) (s0 : Option Nat) (s1 : Int32) (s2 : Int32) (M : Mp) (z : Nat) : SK G F 9 eI 219 [some (va_rf l0), none, none, none, none, none, none, none, none] [.int s2, .int s1, va_rf s0] M z (fX1_block_J219 l0 s0 s1 s2 M z) := by
  unfold fX1_block_J219
  refine s_iast (pc := 219) hF dX1_block_219 (fun M1 => ?_)
  refine s_aload_n (pc := 220) hF dX1_block_220 rfl rfl ?_
  refine s_getr (pc := 221) hF (fl_X1_31 hF) dX1_block_221 (fun v2 => ?_)
  refine s_iconst (pc := 224) hF dX1_block_224 (2 : Int32) (by decide) ?_
  refine s_aload_n (pc := 225) hF dX1_block_225 rfl rfl ?_
  refine s_geti (pc := 226) hF (fl_X1_98 hF) dX1_block_226 (fun v3 => ?_)
  refine s_imul (pc := 229) hF dX1_block_229 ?_
  refine s_bipush (pc := 230) hF dX1_block_230 (-9 : Int32) (by decide) ?_
  refine s_iast (pc := 232) hF dX1_block_232 (fun M4 => ?_)
  refine s_aload_n (pc := 233) hF dX1_block_233 rfl rfl ?_
  refine s_getr (pc := 234) hF (fl_X1_31 hF) dX1_block_234 (fun v5 => ?_)
  refine s_iconst (pc := 237) hF dX1_block_237 (2 : Int32) (by decide) ?_
  refine s_aload_n (pc := 238) hF dX1_block_238 rfl rfl ?_
  refine s_geti (pc := 239) hF (fl_X1_98 hF) dX1_block_239 (fun v6 => ?_)
  refine s_imul (pc := 242) hF dX1_block_242 ?_
  refine s_iconst (pc := 243) hF dX1_block_243 (1 : Int32) (by decide) ?_
  refine s_iadd (pc := 244) hF dX1_block_244 ?_
  refine s_bipush (pc := 245) hF dX1_block_245 (-9 : Int32) (by decide) ?_
  refine s_iast (pc := 247) hF dX1_block_247 (fun M7 => ?_)
  refine s_aload_n (pc := 248) hF dX1_block_248 rfl rfl ?_
  refine s_dup (pc := 249) hF dX1_block_249 (ct _) ?_
  refine s_geti (pc := 250) hF (fl_X1_98 hF) dX1_block_250 (fun v8 => ?_)
  refine s_iconst (pc := 253) hF dX1_block_253 (1 : Int32) (by decide) ?_
  refine s_iadd (pc := 254) hF dX1_block_254 ?_
  refine s_put (pc := 255) hF (pl_X1_98 hF _) dX1_block_255 (fun M9 => ?_)
  refine s_aload_n (pc := 258) hF dX1_block_258 rfl rfl ?_
  refine s_geti (pc := 259) hF (fl_X1_98 hF) dX1_block_259 (fun v10 => ?_)
  refine s_iconst (pc := 262) hF dX1_block_262 (1 : Int32) (by decide) ?_
  refine s_isub (pc := 263) hF dX1_block_263 ?_
  exact s_iret (pc := 264) hF dX1_block_264

def fX1_block_J119 (r80 : Option Nat → Int32 → Int32 → Int32 → Int32 → Int32 → Int32 → Int32 → Mp → Nat → Rs Int32) (l0 : Option Nat) (l1 : Int32) (l2 : Int32) (l3 : Int32) (l4 : Int32) (l5 : Int32) (l6 : Int32) (l8 : Int32) (M : Mp) (z : Nat) : Rs Int32 := r80 l0 l1 l2 l3 l4 l5 l6 (l8 + 1) M z

theorem gX1_block_J119 {G : Cx} {F : Option Value × Mp × Nat}  {r80 : Option Nat → Int32 → Int32 → Int32 → Int32 → Int32 → Int32 → Int32 → Mp → Nat → Rs Int32}(hF : FX G cX1_block 9 RX1 (Option.some Jvm.ClassFile.FieldType.int) "block" 1 25) (hr80 : ∀ l0 l1 l2 l3 l4 l5 l6 l8 M z, SK G F 9 eI 80 [some (va_rf l0), some (.int l1), some (.int l2), some (.int l3), some (.int l4), some (.int l5), some (.int l6), none, some (.int l8)] [] M z (r80 l0 l1 l2 l3 l4 l5 l6 l8 M z)) (l0 : Option Nat) (l1 : Int32) (l2 : Int32) (l3 : Int32) (l4 : Int32) (l5 : Int32) (l6 : Int32) (l8 : Int32) (M : Mp) (z : Nat) : SK G F 9 eI 119 [some (va_rf l0), some (.int l1), some (.int l2), some (.int l3), some (.int l4), some (.int l5), some (.int l6), none, some (.int l8)] [] M z (fX1_block_J119 r80 l0 l1 l2 l3 l4 l5 l6 l8 M z) := by
  unfold fX1_block_J119
  refine s_iinc (v := l8 + 1) (L9 := [some (va_rf l0), some (.int l1), some (.int l2), some (.int l3), some (.int l4), some (.int l5), some (.int l6), none, some (.int (l8 + 1))]) (pc := 119) hF dX1_block_119 rfl rfl (Nat.le_of_ble_eq_true rfl) rfl ?_
  refine s_goto (pc := 122) hF 80 dX1_block_122 rfl ?_
  exact SK.sb (hr80 l0 l1 l2 l3 l4 l5 l6 (l8 + 1) M z) ⟨rfl, ⟨rfl, ⟨rfl, ⟨rfl, ⟨rfl, ⟨rfl, ⟨rfl, ⟨rfl, trivial⟩⟩⟩⟩⟩⟩⟩⟩

def fX1_block_L80 : Nat → Option Nat → Int32 → Int32 → Int32 → Int32 → Int32 → Int32 → Int32 → Mp → Nat → Rs Int32
  | 0, _, _, _, _, _, _, _, _, _, _ => none
  | fu + 1, l0, l1, l2, l3, l4, l5, l6, l8, M, z => (gi M l0 [1] 0).bind fun v1 =>
if l8 < v1 then
  ((gr M l0 [1] 1).bind fun v23 =>
(ai M 0 v23 l8).bind fun v24 =>
if v24 = l1 then
  (if ckc M l0 [1] = true then
  (cb (fX1_isMeeting l0 l8 l3 l4 l5 l6 M z) z fun v25 M26 z27 =>
if v25 = 0 then
  (fX1_block_J119 (fX1_block_L80 fu) l0 l1 l2 l3 l4 l5 l6 l8 M26 z27)
else
  (some ((-3 : Int32), M26, 0, 0)))
else none)
else
  (fX1_block_J119 (fX1_block_L80 fu) l0 l1 l2 l3 l4 l5 l6 l8 M z))
else
  ((gi M l0 [1] 0).bind fun v2 =>
if v2 = (24 : Int32) then
  (some ((-4 : Int32), M, 0, 0))
else
  ((gr M l0 [1] 1).bind fun v3 =>
(gi M l0 [1] 0).bind fun v4 =>
(si M 0 v3 v4 l1).bind fun M5 =>
(gr M5 l0 [1] 2).bind fun v6 =>
(gi M5 l0 [1] 0).bind fun v7 =>
(si M5 0 v6 v7 l2).bind fun M8 =>
(gr M8 l0 [1] 3).bind fun v9 =>
(gi M8 l0 [1] 0).bind fun v10 =>
(si M8 0 v9 v10 l3).bind fun M11 =>
(gr M11 l0 [1] 4).bind fun v12 =>
(gi M11 l0 [1] 0).bind fun v13 =>
(si M11 0 v12 v13 l4).bind fun M14 =>
(gr M14 l0 [1] 5).bind fun v15 =>
(gi M14 l0 [1] 0).bind fun v16 =>
(si M14 0 v15 v16 l5).bind fun M17 =>
(gr M17 l0 [1] 6).bind fun v18 =>
(gi M17 l0 [1] 0).bind fun v19 =>
(si M17 0 v18 v19 l6).bind fun M20 =>
(gr M20 l0 [1] 7).bind fun v21 =>
(gi M20 l0 [1] 0).bind fun v22 =>
if l2 = (1 : Int32) then
  (fX1_block_J219 l0 v21 v22 (1 : Int32) M20 z)
else
  (fX1_block_J219 l0 v21 v22 (-9 : Int32) M20 z)))

theorem gX1_block_L80 {G : Cx} {F : Option Value × Mp × Nat} (hF : FX G cX1_block 9 RX1 (Option.some Jvm.ClassFile.FieldType.int) "block" 1 25) : ∀ (fu : Nat) (l0 : Option Nat) (l1 : Int32) (l2 : Int32) (l3 : Int32) (l4 : Int32) (l5 : Int32) (l6 : Int32) (l8 : Int32) (M : Mp) (z : Nat), SK G F 9 eI 80 [some (va_rf l0), some (.int l1), some (.int l2), some (.int l3), some (.int l4), some (.int l5), some (.int l6), none, some (.int l8)] [] M z (fX1_block_L80 fu l0 l1 l2 l3 l4 l5 l6 l8 M z) := by
  intro fu
  induction fu with
  | zero => intros; exact SK.fail
  | succ fu ih =>
    intro l0 l1 l2 l3 l4 l5 l6 l8 M z
    rw [fX1_block_L80]
    refine s_iload (pc := 80) hF dX1_block_80 rfl ?_
    refine s_aload_n (pc := 82) hF dX1_block_82 rfl rfl ?_
    refine s_geti (pc := 83) hF (fl_X1_98 hF) dX1_block_83 (fun v1 => ?_)
    refine s_icmp_ge (pc := 86) hF 125 dX1_block_86 rfl ?_ ?_
    · refine s_aload_n (pc := 125) hF dX1_block_125 rfl rfl ?_
      refine s_geti (pc := 126) hF (fl_X1_98 hF) dX1_block_126 (fun v2 => ?_)
      refine s_bipush (pc := 129) hF dX1_block_129 (24 : Int32) (by decide) ?_
      refine s_icmp_ne (pc := 131) hF 137 dX1_block_131 rfl ?_ ?_
      · refine s_aload_n (pc := 137) hF dX1_block_137 rfl rfl ?_
        refine s_getr (pc := 138) hF (fl_X1_7 hF) dX1_block_138 (fun v3 => ?_)
        refine s_aload_n (pc := 141) hF dX1_block_141 rfl rfl ?_
        refine s_geti (pc := 142) hF (fl_X1_98 hF) dX1_block_142 (fun v4 => ?_)
        refine s_iload_n (pc := 145) hF dX1_block_145 rfl rfl ?_
        refine s_iast (pc := 146) hF dX1_block_146 (fun M5 => ?_)
        refine s_aload_n (pc := 147) hF dX1_block_147 rfl rfl ?_
        refine s_getr (pc := 148) hF (fl_X1_13 hF) dX1_block_148 (fun v6 => ?_)
        refine s_aload_n (pc := 151) hF dX1_block_151 rfl rfl ?_
        refine s_geti (pc := 152) hF (fl_X1_98 hF) dX1_block_152 (fun v7 => ?_)
        refine s_iload_n (pc := 155) hF dX1_block_155 rfl rfl ?_
        refine s_iast (pc := 156) hF dX1_block_156 (fun M8 => ?_)
        refine s_aload_n (pc := 157) hF dX1_block_157 rfl rfl ?_
        refine s_getr (pc := 158) hF (fl_X1_16 hF) dX1_block_158 (fun v9 => ?_)
        refine s_aload_n (pc := 161) hF dX1_block_161 rfl rfl ?_
        refine s_geti (pc := 162) hF (fl_X1_98 hF) dX1_block_162 (fun v10 => ?_)
        refine s_iload_n (pc := 165) hF dX1_block_165 rfl rfl ?_
        refine s_iast (pc := 166) hF dX1_block_166 (fun M11 => ?_)
        refine s_aload_n (pc := 167) hF dX1_block_167 rfl rfl ?_
        refine s_getr (pc := 168) hF (fl_X1_19 hF) dX1_block_168 (fun v12 => ?_)
        refine s_aload_n (pc := 171) hF dX1_block_171 rfl rfl ?_
        refine s_geti (pc := 172) hF (fl_X1_98 hF) dX1_block_172 (fun v13 => ?_)
        refine s_iload (pc := 175) hF dX1_block_175 rfl ?_
        refine s_iast (pc := 177) hF dX1_block_177 (fun M14 => ?_)
        refine s_aload_n (pc := 178) hF dX1_block_178 rfl rfl ?_
        refine s_getr (pc := 179) hF (fl_X1_22 hF) dX1_block_179 (fun v15 => ?_)
        refine s_aload_n (pc := 182) hF dX1_block_182 rfl rfl ?_
        refine s_geti (pc := 183) hF (fl_X1_98 hF) dX1_block_183 (fun v16 => ?_)
        refine s_iload (pc := 186) hF dX1_block_186 rfl ?_
        refine s_iast (pc := 188) hF dX1_block_188 (fun M17 => ?_)
        refine s_aload_n (pc := 189) hF dX1_block_189 rfl rfl ?_
        refine s_getr (pc := 190) hF (fl_X1_25 hF) dX1_block_190 (fun v18 => ?_)
        refine s_aload_n (pc := 193) hF dX1_block_193 rfl rfl ?_
        refine s_geti (pc := 194) hF (fl_X1_98 hF) dX1_block_194 (fun v19 => ?_)
        refine s_iload (pc := 197) hF dX1_block_197 rfl ?_
        refine s_iast (pc := 199) hF dX1_block_199 (fun M20 => ?_)
        refine s_aload_n (pc := 200) hF dX1_block_200 rfl rfl ?_
        refine s_getr (pc := 201) hF (fl_X1_28 hF) dX1_block_201 (fun v21 => ?_)
        refine s_aload_n (pc := 204) hF dX1_block_204 rfl rfl ?_
        refine s_geti (pc := 205) hF (fl_X1_98 hF) dX1_block_205 (fun v22 => ?_)
        refine s_iload_n (pc := 208) hF dX1_block_208 rfl rfl ?_
        refine s_iconst (pc := 209) hF dX1_block_209 (1 : Int32) (by decide) ?_
        refine s_icmp_ne (pc := 210) hF 217 dX1_block_210 rfl ?_ ?_
        · refine s_bipush (pc := 217) hF dX1_block_217 (-9 : Int32) (by decide) ?_
          exact SK.sb (gX1_block_J219 hF l0 v21 v22 (-9 : Int32) M20 z) ⟨rfl, trivial⟩
        · refine s_iconst (pc := 213) hF dX1_block_213 (1 : Int32) (by decide) ?_
          refine s_goto (pc := 214) hF 219 dX1_block_214 rfl ?_
          exact SK.sb (gX1_block_J219 hF l0 v21 v22 (1 : Int32) M20 z) ⟨rfl, trivial⟩
      · refine s_bipush (pc := 134) hF dX1_block_134 (-4 : Int32) (by decide) ?_
        exact s_iret (pc := 136) hF dX1_block_136
    · refine s_aload_n (pc := 89) hF dX1_block_89 rfl rfl ?_
      refine s_getr (pc := 90) hF (fl_X1_7 hF) dX1_block_90 (fun v23 => ?_)
      refine s_iload (pc := 93) hF dX1_block_93 rfl ?_
      refine s_iald (pc := 95) hF dX1_block_95 (fun v24 => ?_)
      refine s_iload_n (pc := 96) hF dX1_block_96 rfl rfl ?_
      refine s_icmp_ne (pc := 97) hF 119 dX1_block_97 rfl ?_ ?_
      · exact SK.sb (gX1_block_J119 hF ih l0 l1 l2 l3 l4 l5 l6 l8 M z) ⟨rfl, ⟨rfl, ⟨rfl, ⟨rfl, ⟨rfl, ⟨rfl, ⟨rfl, ⟨rfl, trivial⟩⟩⟩⟩⟩⟩⟩⟩
      · refine s_aload_n (pc := 100) hF dX1_block_100 rfl rfl ?_
        refine s_iload (pc := 101) hF dX1_block_101 rfl ?_
        refine s_iload_n (pc := 103) hF dX1_block_103 rfl rfl ?_
        refine s_iload (pc := 104) hF dX1_block_104 rfl ?_
        refine s_iload (pc := 106) hF dX1_block_106 rfl ?_
        refine s_iload (pc := 108) hF dX1_block_108 rfl ?_
        refine s_callV (pc := 110) (As := [.int l8, .int l3, .int l4, .int l5, .int l6]) (st := []) (stf := fun r9 => .int r9 :: []) hF (mX1_isMeeting l0 l8 l3 l4 l5 l6) cw_X1_isMeeting q1150 q1152 (List.forall_mem_cons.mpr ⟨⟨(RX1, TX1, 34), rfl, qs27⟩, fun _ h9 => absurd h9 List.not_mem_nil⟩) rfl ⟨Nat.le_of_ble_eq_true rfl, Nat.le_of_ble_eq_true rfl⟩ ⟨trivial, Nat.le_of_ble_eq_true rfl⟩ dX1_block_110 rfl (fun _ => rfl) (fun v25 M26 z27 => ?_)
        refine s_if_eq (pc := 113) hF 119 dX1_block_113 rfl ?_ ?_
        · exact SK.sb (gX1_block_J119 hF ih l0 l1 l2 l3 l4 l5 l6 l8 M26 z27) ⟨rfl, ⟨rfl, ⟨rfl, ⟨rfl, ⟨rfl, ⟨rfl, ⟨rfl, ⟨rfl, trivial⟩⟩⟩⟩⟩⟩⟩⟩
        · refine s_bipush (pc := 116) hF dX1_block_116 (-3 : Int32) (by decide) ?_
          exact s_iret (pc := 118) hF dX1_block_118

def fX1_block_J49 (l0 : Option Nat) (l1 : Int32) (l2 : Int32) (l3 : Int32) (l4 : Int32) (l5 : Int32) (l6 : Int32) (s0 : Int32) (M : Mp) (z : Nat) : Rs Int32 := cb (fX1_within l1 (0 : Int32) (3 : Int32) M z) z fun v1 M2 z3 =>
if v1 = 0 then
  (some ((-2 : Int32), M2, 0, 0))
else
  (cb (fX1_within l2 (0 : Int32) (2 : Int32) M2 z3) z3 fun v4 M5 z6 =>
if v4 = 0 then
  (some ((-2 : Int32), M5, 0, 0))
else
  (if s0 = 0 then
  (some ((-2 : Int32), M5, 0, 0))
else
  (fX1_block_L80 FU l0 l1 l2 l3 l4 l5 l6 (0 : Int32) M5 z6)))

theorem gX1_block_J49 {G : Cx} {F : Option Value × Mp × Nat} (hF : FX G cX1_block 9 RX1 (Option.some Jvm.ClassFile.FieldType.int) "block" 1 25) (l0 : Option Nat) (l1 : Int32) (l2 : Int32) (l3 : Int32) (l4 : Int32) (l5 : Int32) (l6 : Int32) (s0 : Int32) (M : Mp) (z : Nat) : SK G F 9 eI 49 [some (va_rf l0), some (.int l1), some (.int l2), some (.int l3), some (.int l4), some (.int l5), some (.int l6), none, none] [.int s0] M z (fX1_block_J49 l0 l1 l2 l3 l4 l5 l6 s0 M z) := by
  unfold fX1_block_J49
  refine s_istore (L9 := [some (va_rf l0), some (.int l1), some (.int l2), some (.int l3), some (.int l4), some (.int l5), some (.int l6), some (.int s0), none]) (pc := 49) hF dX1_block_49 (Nat.le_of_ble_eq_true rfl) rfl ?_
  refine s_iload_n (pc := 51) hF dX1_block_51 rfl rfl ?_
  refine s_iconst (pc := 52) hF dX1_block_52 (0 : Int32) (by decide) ?_
  refine s_iconst (pc := 53) hF dX1_block_53 (3 : Int32) (by decide) ?_
  refine s_callS (pc := 54) (As := [.int l1, .int (0 : Int32), .int (3 : Int32)]) (st := []) (stf := fun r9 => .int r9 :: []) hF (mX1_within l1 (0 : Int32) (3 : Int32)) cw_X1_within q1147 q1148 rfl ⟨Nat.le_of_ble_eq_true rfl, Nat.le_of_ble_eq_true rfl⟩ ⟨trivial, Nat.le_of_ble_eq_true rfl⟩ dX1_block_54 rfl (fun _ => rfl) (fun v1 M2 z3 => ?_)
  refine s_if_eq (pc := 57) hF 74 dX1_block_57 rfl ?_ ?_
  · refine s_bipush (pc := 74) hF dX1_block_74 (-2 : Int32) (by decide) ?_
    exact s_iret (pc := 76) hF dX1_block_76
  · refine s_iload_n (pc := 60) hF dX1_block_60 rfl rfl ?_
    refine s_iconst (pc := 61) hF dX1_block_61 (0 : Int32) (by decide) ?_
    refine s_iconst (pc := 62) hF dX1_block_62 (2 : Int32) (by decide) ?_
    refine s_callS (pc := 63) (As := [.int l2, .int (0 : Int32), .int (2 : Int32)]) (st := []) (stf := fun r9 => .int r9 :: []) hF (mX1_within l2 (0 : Int32) (2 : Int32)) cw_X1_within q1147 q1148 rfl ⟨Nat.le_of_ble_eq_true rfl, Nat.le_of_ble_eq_true rfl⟩ ⟨trivial, Nat.le_of_ble_eq_true rfl⟩ dX1_block_63 rfl (fun _ => rfl) (fun v4 M5 z6 => ?_)
    refine s_if_eq (pc := 66) hF 74 dX1_block_66 rfl ?_ ?_
    · refine s_bipush (pc := 74) hF dX1_block_74 (-2 : Int32) (by decide) ?_
      exact s_iret (pc := 76) hF dX1_block_76
    · refine s_iload (pc := 69) hF dX1_block_69 rfl ?_
      refine s_if_ne (pc := 71) hF 77 dX1_block_71 rfl ?_ ?_
      · refine s_iconst (pc := 77) hF dX1_block_77 (0 : Int32) (by decide) ?_
        refine s_istore (L9 := [some (va_rf l0), some (.int l1), some (.int l2), some (.int l3), some (.int l4), some (.int l5), some (.int l6), some (.int s0), some (.int (0 : Int32))]) (pc := 78) hF dX1_block_78 (Nat.le_of_ble_eq_true rfl) rfl ?_
        exact SK.sb (gX1_block_L80 hF FU l0 l1 l2 l3 l4 l5 l6 (0 : Int32) M5 z6) ⟨rfl, ⟨rfl, ⟨rfl, ⟨rfl, ⟨rfl, ⟨rfl, ⟨rfl, ⟨rfl, trivial⟩⟩⟩⟩⟩⟩⟩⟩
      · refine s_bipush (pc := 74) hF dX1_block_74 (-2 : Int32) (by decide) ?_
        exact s_iret (pc := 76) hF dX1_block_76
def fX1_block (a0 : Option Nat) (a1 : Int32) (a2 : Int32) (a3 : Int32) (a4 : Int32) (a5 : Int32) (a6 : Int32) (M : Mp) (z : Nat) : Rs Int32 := cb (fX1_within a3 (0 : Int32) a4 M z) z fun v1 M2 z3 =>
if v1 = 0 then
  (fX1_block_J49 a0 a1 a2 a3 a4 a5 a6 (0 : Int32) M2 z3)
else
  (cb (fX1_within a4 a3 (7 : Int32) M2 z3) z3 fun v4 M5 z6 =>
if v4 = 0 then
  (fX1_block_J49 a0 a1 a2 a3 a4 a5 a6 (0 : Int32) M5 z6)
else
  (cb (fX1_within a5 (0 : Int32) a6 M5 z6) z6 fun v7 M8 z9 =>
if v7 = 0 then
  (fX1_block_J49 a0 a1 a2 a3 a4 a5 a6 (0 : Int32) M8 z9)
else
  (cb (fX1_within a6 a5 (29 : Int32) M8 z9) z9 fun v10 M11 z12 =>
if v10 = 0 then
  (fX1_block_J49 a0 a1 a2 a3 a4 a5 a6 (0 : Int32) M11 z12)
else
  (fX1_block_J49 a0 a1 a2 a3 a4 a5 a6 (1 : Int32) M11 z12))))
theorem gX1_block {G : Cx} {F : Option Value × Mp × Nat} (hF : FX G cX1_block 9 RX1 (Option.some Jvm.ClassFile.FieldType.int) "block" 1 25) (a0 : Option Nat) (a1 : Int32) (a2 : Int32) (a3 : Int32) (a4 : Int32) (a5 : Int32) (a6 : Int32) (M : Mp) (z : Nat) : SK G F 9 eI 0 [some (va_rf a0), some (.int a1), some (.int a2), some (.int a3), some (.int a4), some (.int a5), some (.int a6), none, none] [] M z (fX1_block a0 a1 a2 a3 a4 a5 a6 M z) := by
  unfold fX1_block
  refine s_iload_n (pc := 0) hF dX1_block_0 rfl rfl ?_
  refine s_iconst (pc := 1) hF dX1_block_1 (0 : Int32) (by decide) ?_
  refine s_iload (pc := 2) hF dX1_block_2 rfl ?_
  refine s_callS (pc := 4) (As := [.int a3, .int (0 : Int32), .int a4]) (st := []) (stf := fun r9 => .int r9 :: []) hF (mX1_within a3 (0 : Int32) a4) cw_X1_within q1147 q1148 rfl ⟨Nat.le_of_ble_eq_true rfl, Nat.le_of_ble_eq_true rfl⟩ ⟨trivial, Nat.le_of_ble_eq_true rfl⟩ dX1_block_4 rfl (fun _ => rfl) (fun v1 M2 z3 => ?_)
  refine s_if_eq (pc := 7) hF 48 dX1_block_7 rfl ?_ ?_
  · refine s_iconst (pc := 48) hF dX1_block_48 (0 : Int32) (by decide) ?_
    exact SK.sb (gX1_block_J49 hF a0 a1 a2 a3 a4 a5 a6 (0 : Int32) M2 z3) ⟨rfl, ⟨rfl, ⟨rfl, ⟨rfl, ⟨rfl, ⟨rfl, ⟨rfl, trivial⟩⟩⟩⟩⟩⟩⟩
  · refine s_iload (pc := 10) hF dX1_block_10 rfl ?_
    refine s_iload_n (pc := 12) hF dX1_block_12 rfl rfl ?_
    refine s_bipush (pc := 13) hF dX1_block_13 (7 : Int32) (by decide) ?_
    refine s_callS (pc := 15) (As := [.int a4, .int a3, .int (7 : Int32)]) (st := []) (stf := fun r9 => .int r9 :: []) hF (mX1_within a4 a3 (7 : Int32)) cw_X1_within q1147 q1148 rfl ⟨Nat.le_of_ble_eq_true rfl, Nat.le_of_ble_eq_true rfl⟩ ⟨trivial, Nat.le_of_ble_eq_true rfl⟩ dX1_block_15 rfl (fun _ => rfl) (fun v4 M5 z6 => ?_)
    refine s_if_eq (pc := 18) hF 48 dX1_block_18 rfl ?_ ?_
    · refine s_iconst (pc := 48) hF dX1_block_48 (0 : Int32) (by decide) ?_
      exact SK.sb (gX1_block_J49 hF a0 a1 a2 a3 a4 a5 a6 (0 : Int32) M5 z6) ⟨rfl, ⟨rfl, ⟨rfl, ⟨rfl, ⟨rfl, ⟨rfl, ⟨rfl, trivial⟩⟩⟩⟩⟩⟩⟩
    · refine s_iload (pc := 21) hF dX1_block_21 rfl ?_
      refine s_iconst (pc := 23) hF dX1_block_23 (0 : Int32) (by decide) ?_
      refine s_iload (pc := 24) hF dX1_block_24 rfl ?_
      refine s_callS (pc := 26) (As := [.int a5, .int (0 : Int32), .int a6]) (st := []) (stf := fun r9 => .int r9 :: []) hF (mX1_within a5 (0 : Int32) a6) cw_X1_within q1147 q1148 rfl ⟨Nat.le_of_ble_eq_true rfl, Nat.le_of_ble_eq_true rfl⟩ ⟨trivial, Nat.le_of_ble_eq_true rfl⟩ dX1_block_26 rfl (fun _ => rfl) (fun v7 M8 z9 => ?_)
      refine s_if_eq (pc := 29) hF 48 dX1_block_29 rfl ?_ ?_
      · refine s_iconst (pc := 48) hF dX1_block_48 (0 : Int32) (by decide) ?_
        exact SK.sb (gX1_block_J49 hF a0 a1 a2 a3 a4 a5 a6 (0 : Int32) M8 z9) ⟨rfl, ⟨rfl, ⟨rfl, ⟨rfl, ⟨rfl, ⟨rfl, ⟨rfl, trivial⟩⟩⟩⟩⟩⟩⟩
      · refine s_iload (pc := 32) hF dX1_block_32 rfl ?_
        refine s_iload (pc := 34) hF dX1_block_34 rfl ?_
        refine s_bipush (pc := 36) hF dX1_block_36 (29 : Int32) (by decide) ?_
        refine s_callS (pc := 38) (As := [.int a6, .int a5, .int (29 : Int32)]) (st := []) (stf := fun r9 => .int r9 :: []) hF (mX1_within a6 a5 (29 : Int32)) cw_X1_within q1147 q1148 rfl ⟨Nat.le_of_ble_eq_true rfl, Nat.le_of_ble_eq_true rfl⟩ ⟨trivial, Nat.le_of_ble_eq_true rfl⟩ dX1_block_38 rfl (fun _ => rfl) (fun v10 M11 z12 => ?_)
        refine s_if_eq (pc := 41) hF 48 dX1_block_41 rfl ?_ ?_
        · refine s_iconst (pc := 48) hF dX1_block_48 (0 : Int32) (by decide) ?_
          exact SK.sb (gX1_block_J49 hF a0 a1 a2 a3 a4 a5 a6 (0 : Int32) M11 z12) ⟨rfl, ⟨rfl, ⟨rfl, ⟨rfl, ⟨rfl, ⟨rfl, ⟨rfl, trivial⟩⟩⟩⟩⟩⟩⟩
        · refine s_iconst (pc := 44) hF dX1_block_44 (1 : Int32) (by decide) ?_
          refine s_goto (pc := 45) hF 49 dX1_block_45 rfl ?_
          exact SK.sb (gX1_block_J49 hF a0 a1 a2 a3 a4 a5 a6 (1 : Int32) M11 z12) ⟨rfl, ⟨rfl, ⟨rfl, ⟨rfl, ⟨rfl, ⟨rfl, ⟨rfl, trivial⟩⟩⟩⟩⟩⟩⟩
theorem mX1_block (a0 : Option Nat) (a1 : Int32) (a2 : Int32) (a3 : Int32) (a4 : Int32) (a5 : Int32) (a6 : Int32) : MT yX1_block cX1_block 9 (Option.some Jvm.ClassFile.FieldType.int) 1 25 eI [va_rf a0, .int a1, .int a2, .int a3, .int a4, .int a5, .int a6] (fX1_block a0 a1 a2 a3 a4 a5 a6) :=
  MT.of (L0 := [some (va_rf a0), some (.int a1), some (.int a2), some (.int a3), some (.int a4), some (.int a5), some (.int a6), none, none]) (by decide) ⟨ct _, ⟨rfl, ⟨rfl, ⟨rfl, ⟨rfl, ⟨rfl, ⟨rfl, trivial⟩⟩⟩⟩⟩⟩⟩ (Nat.le_of_ble_eq_true rfl) rfl (fun _ _ hF M z => gX1_block hF a0 a1 a2 a3 a4 a5 a6 M z)

def fX1_isBlock (a0 : Option Nat) (a1 : Int32) (M : Mp) (z : Nat) : Rs Int32 := (gi M a0 [1] 0).bind fun v1 =>
cb (fX1_within a1 (0 : Int32) (v1 - (1 : Int32)) M z) z fun v2 M3 z4 =>
if v2 = 0 ∨ v2 = 1 then some (v2, M3, 0, 0) else none
theorem gX1_isBlock {G : Cx} {F : Option Value × Mp × Nat} (hF : FX G cX1_isBlock 2 RX1 (Option.some Jvm.ClassFile.FieldType.boolean) "isBlock" 1 22) (a0 : Option Nat) (a1 : Int32) (M : Mp) (z : Nat) : SK G F 2 eI 0 [some (va_rf a0), some (.int a1)] [] M z (fX1_isBlock a0 a1 M z) := by
  unfold fX1_isBlock
  refine s_iload_n (pc := 0) hF dX1_isBlock_0 rfl rfl ?_
  refine s_iconst (pc := 1) hF dX1_isBlock_1 (0 : Int32) (by decide) ?_
  refine s_aload_n (pc := 2) hF dX1_isBlock_2 rfl rfl ?_
  refine s_geti (pc := 3) hF (fl_X1_98 hF) dX1_isBlock_3 (fun v1 => ?_)
  refine s_iconst (pc := 6) hF dX1_isBlock_6 (1 : Int32) (by decide) ?_
  refine s_isub (pc := 7) hF dX1_isBlock_7 ?_
  refine s_callS (pc := 8) (As := [.int a1, .int (0 : Int32), .int (v1 - (1 : Int32))]) (st := []) (stf := fun r9 => .int r9 :: []) hF (mX1_within a1 (0 : Int32) (v1 - (1 : Int32))) cw_X1_within q1147 q1148 rfl ⟨Nat.le_of_ble_eq_true rfl, Nat.le_of_ble_eq_true rfl⟩ ⟨trivial, Nat.le_of_ble_eq_true rfl⟩ dX1_isBlock_8 rfl (fun _ => rfl) (fun v2 M3 z4 => ?_)
  exact s_zret (pc := 11) hF dX1_isBlock_11
theorem mX1_isBlock (a0 : Option Nat) (a1 : Int32) : MT yX1_isBlock cX1_isBlock 2 (Option.some Jvm.ClassFile.FieldType.boolean) 1 22 eI [va_rf a0, .int a1] (fX1_isBlock a0 a1) :=
  MT.of (L0 := [some (va_rf a0), some (.int a1)]) (by decide) ⟨ct _, ⟨rfl, trivial⟩⟩ (Nat.le_of_ble_eq_true rfl) rfl (fun _ _ hF M z => gX1_isBlock hF a0 a1 M z)

theorem cw_X1_isBlock : CWm yX1_isBlock cX1_isBlock 2 (Option.some Jvm.ClassFile.FieldType.boolean) 1 := ⟨q1161, q63, by decide +kernel, by decide +kernel, by decide +kernel⟩
def fX1_words (a0 : Option Nat) (a1 : Int32) (a2 : Int32) (M : Mp) (z : Nat) : Rs Int32 := if ckc M a0 [1] = true then
  (cb (fX1_isBlock a0 a1 M z) z fun v1 M2 z3 =>
if v1 = 0 then
  (some ((-1 : Int32), M2, 0, 0))
else
  (cb (fX1_within a2 (1 : Int32) (99 : Int32) M2 z3) z3 fun v4 M5 z6 =>
if v4 = 0 then
  (some ((-2 : Int32), M5, 0, 0))
else
  ((gr M5 a0 [1] 2).bind fun v7 =>
(ai M5 0 v7 a1).bind fun v8 =>
if v8 = (1 : Int32) then
  ((gr M5 a0 [1] 7).bind fun v9 =>
(ai M5 0 v9 a1).bind fun v10 =>
(gr M5 a0 [1] 7).bind fun v11 =>
(si M5 0 v11 a1 a2).bind fun M12 =>
some (v10, M12, 0, 0))
else
  (some ((-3 : Int32), M5, 0, 0)))))
else none
theorem gX1_words {G : Cx} {F : Option Value × Mp × Nat} (hF : FX G cX1_words 4 RX1 (Option.some Jvm.ClassFile.FieldType.int) "words" 2 43) (a0 : Option Nat) (a1 : Int32) (a2 : Int32) (M : Mp) (z : Nat) : SK G F 4 eI 0 [some (va_rf a0), some (.int a1), some (.int a2), none] [] M z (fX1_words a0 a1 a2 M z) := by
  unfold fX1_words
  refine s_aload_n (pc := 0) hF dX1_words_0 rfl rfl ?_
  refine s_iload_n (pc := 1) hF dX1_words_1 rfl rfl ?_
  refine s_callV (pc := 2) (As := [.int a1]) (st := []) (stf := fun r9 => .int r9 :: []) hF (mX1_isBlock a0 a1) cw_X1_isBlock q1158 q1160 (List.forall_mem_cons.mpr ⟨⟨(RX1, TX1, 34), rfl, qs28⟩, fun _ h9 => absurd h9 List.not_mem_nil⟩) rfl ⟨Nat.le_of_ble_eq_true rfl, Nat.le_of_ble_eq_true rfl⟩ ⟨trivial, Nat.le_of_ble_eq_true rfl⟩ dX1_words_2 rfl (fun _ => rfl) (fun v1 M2 z3 => ?_)
  refine s_if_ne (pc := 5) hF 10 dX1_words_5 rfl ?_ ?_
  · refine s_iload_n (pc := 10) hF dX1_words_10 rfl rfl ?_
    refine s_iconst (pc := 11) hF dX1_words_11 (1 : Int32) (by decide) ?_
    refine s_bipush (pc := 12) hF dX1_words_12 (99 : Int32) (by decide) ?_
    refine s_callS (pc := 14) (As := [.int a2, .int (1 : Int32), .int (99 : Int32)]) (st := []) (stf := fun r9 => .int r9 :: []) hF (mX1_within a2 (1 : Int32) (99 : Int32)) cw_X1_within q1147 q1148 rfl ⟨Nat.le_of_ble_eq_true rfl, Nat.le_of_ble_eq_true rfl⟩ ⟨trivial, Nat.le_of_ble_eq_true rfl⟩ dX1_words_14 rfl (fun _ => rfl) (fun v4 M5 z6 => ?_)
    refine s_if_ne (pc := 17) hF 23 dX1_words_17 rfl ?_ ?_
    · refine s_aload_n (pc := 23) hF dX1_words_23 rfl rfl ?_
      refine s_getr (pc := 24) hF (fl_X1_13 hF) dX1_words_24 (fun v7 => ?_)
      refine s_iload_n (pc := 27) hF dX1_words_27 rfl rfl ?_
      refine s_iald (pc := 28) hF dX1_words_28 (fun v8 => ?_)
      refine s_iconst (pc := 29) hF dX1_words_29 (1 : Int32) (by decide) ?_
      refine s_icmp_eq (pc := 30) hF 36 dX1_words_30 rfl ?_ ?_
      · refine s_aload_n (pc := 36) hF dX1_words_36 rfl rfl ?_
        refine s_getr (pc := 37) hF (fl_X1_28 hF) dX1_words_37 (fun v9 => ?_)
        refine s_iload_n (pc := 40) hF dX1_words_40 rfl rfl ?_
        refine s_iald (pc := 41) hF dX1_words_41 (fun v10 => ?_)
        refine s_istore_n (L9 := [some (va_rf a0), some (.int a1), some (.int a2), some (.int v10)]) (pc := 42) hF dX1_words_42 rfl (Nat.le_of_ble_eq_true rfl) rfl ?_
        refine s_aload_n (pc := 43) hF dX1_words_43 rfl rfl ?_
        refine s_getr (pc := 44) hF (fl_X1_28 hF) dX1_words_44 (fun v11 => ?_)
        refine s_iload_n (pc := 47) hF dX1_words_47 rfl rfl ?_
        refine s_iload_n (pc := 48) hF dX1_words_48 rfl rfl ?_
        refine s_iast (pc := 49) hF dX1_words_49 (fun M12 => ?_)
        refine s_iload_n (pc := 50) hF dX1_words_50 rfl rfl ?_
        exact s_iret (pc := 51) hF dX1_words_51
      · refine s_bipush (pc := 33) hF dX1_words_33 (-3 : Int32) (by decide) ?_
        exact s_iret (pc := 35) hF dX1_words_35
    · refine s_bipush (pc := 20) hF dX1_words_20 (-2 : Int32) (by decide) ?_
      exact s_iret (pc := 22) hF dX1_words_22
  · refine s_iconst (pc := 8) hF dX1_words_8 (-1 : Int32) (by decide) ?_
    exact s_iret (pc := 9) hF dX1_words_9
theorem mX1_words (a0 : Option Nat) (a1 : Int32) (a2 : Int32) : MT yX1_words cX1_words 4 (Option.some Jvm.ClassFile.FieldType.int) 2 43 eI [va_rf a0, .int a1, .int a2] (fX1_words a0 a1 a2) :=
  MT.of (L0 := [some (va_rf a0), some (.int a1), some (.int a2), none]) (by decide) ⟨ct _, ⟨rfl, ⟨rfl, trivial⟩⟩⟩ (Nat.le_of_ble_eq_true rfl) rfl (fun _ _ hF M z => gX1_words hF a0 a1 a2 M z)

theorem fl_X1_114 {G : Cx} {nL fr lc : Nat} {cc : ByteArray} {ret : Option FieldType} {nm : String} (hF : FX G cc nL RX1 ret nm fr lc) : ∀ c ∈ [1], GF G RX1 114 c 10 := by
  obtain ⟨⟨p, l, e, R, s, m, args, below, meth, c0⟩, A, D, dA, mi⟩ := G
  obtain ⟨hx, hb, hml, hown, hts, hr, hlk, hK, hnm, hfr, hlc⟩ := hF
  exact List.forall_mem_cons.mpr ⟨⟨RX1, TX1, 34, "StoryColumnsModel", rfl, in_X1, Nat.le_of_ble_eq_true rfl, Or.inl (hts _ q1048), fun _ h => h⟩, fun _ h9 => absurd h9 List.not_mem_nil⟩
theorem fl_X1_37 {G : Cx} {nL fr lc : Nat} {cc : ByteArray} {ret : Option FieldType} {nm : String} (hF : FX G cc nL RX1 ret nm fr lc) : ∀ c ∈ [1], GF G RX1 37 c 11 := by
  obtain ⟨⟨p, l, e, R, s, m, args, below, meth, c0⟩, A, D, dA, mi⟩ := G
  obtain ⟨hx, hb, hml, hown, hts, hr, hlk, hK, hnm, hfr, hlc⟩ := hF
  exact List.forall_mem_cons.mpr ⟨⟨RX1, TX1, 34, "StoryColumnsModel", rfl, in_X1, Nat.le_of_ble_eq_true rfl, Or.inl (hts _ q1049), fun _ h => h⟩, fun _ h9 => absurd h9 List.not_mem_nil⟩
theorem fl_X1_40 {G : Cx} {nL fr lc : Nat} {cc : ByteArray} {ret : Option FieldType} {nm : String} (hF : FX G cc nL RX1 ret nm fr lc) : ∀ c ∈ [1], GF G RX1 40 c 12 := by
  obtain ⟨⟨p, l, e, R, s, m, args, below, meth, c0⟩, A, D, dA, mi⟩ := G
  obtain ⟨hx, hb, hml, hown, hts, hr, hlk, hK, hnm, hfr, hlc⟩ := hF
  exact List.forall_mem_cons.mpr ⟨⟨RX1, TX1, 34, "StoryColumnsModel", rfl, in_X1, Nat.le_of_ble_eq_true rfl, Or.inl (hts _ q1050), fun _ h => h⟩, fun _ h9 => absurd h9 List.not_mem_nil⟩
theorem fl_X1_43 {G : Cx} {nL fr lc : Nat} {cc : ByteArray} {ret : Option FieldType} {nm : String} (hF : FX G cc nL RX1 ret nm fr lc) : ∀ c ∈ [1], GF G RX1 43 c 13 := by
  obtain ⟨⟨p, l, e, R, s, m, args, below, meth, c0⟩, A, D, dA, mi⟩ := G
  obtain ⟨hx, hb, hml, hown, hts, hr, hlk, hK, hnm, hfr, hlc⟩ := hF
  exact List.forall_mem_cons.mpr ⟨⟨RX1, TX1, 34, "StoryColumnsModel", rfl, in_X1, Nat.le_of_ble_eq_true rfl, Or.inl (hts _ q1051), fun _ h => h⟩, fun _ h9 => absurd h9 List.not_mem_nil⟩
theorem fl_X1_46 {G : Cx} {nL fr lc : Nat} {cc : ByteArray} {ret : Option FieldType} {nm : String} (hF : FX G cc nL RX1 ret nm fr lc) : ∀ c ∈ [1], GF G RX1 46 c 14 := by
  obtain ⟨⟨p, l, e, R, s, m, args, below, meth, c0⟩, A, D, dA, mi⟩ := G
  obtain ⟨hx, hb, hml, hown, hts, hr, hlk, hK, hnm, hfr, hlc⟩ := hF
  exact List.forall_mem_cons.mpr ⟨⟨RX1, TX1, 34, "StoryColumnsModel", rfl, in_X1, Nat.le_of_ble_eq_true rfl, Or.inl (hts _ q1052), fun _ h => h⟩, fun _ h9 => absurd h9 List.not_mem_nil⟩
theorem fl_X1_49 {G : Cx} {nL fr lc : Nat} {cc : ByteArray} {ret : Option FieldType} {nm : String} (hF : FX G cc nL RX1 ret nm fr lc) : ∀ c ∈ [1], GF G RX1 49 c 15 := by
  obtain ⟨⟨p, l, e, R, s, m, args, below, meth, c0⟩, A, D, dA, mi⟩ := G
  obtain ⟨hx, hb, hml, hown, hts, hr, hlk, hK, hnm, hfr, hlc⟩ := hF
  exact List.forall_mem_cons.mpr ⟨⟨RX1, TX1, 34, "StoryColumnsModel", rfl, in_X1, Nat.le_of_ble_eq_true rfl, Or.inl (hts _ q1053), fun _ h => h⟩, fun _ h9 => absurd h9 List.not_mem_nil⟩
theorem pl_X1_114 {G : Cx} {nL fr lc : Nat} {cc : ByteArray} {ret : Option FieldType} {nm : String} (hF : FX G cc nL RX1 ret nm fr lc) (x9 : Int32) : ∀ c ∈ [1], PF G RX1 nm 114 c 10 (.int x9) := by
  obtain ⟨⟨p, l, e, R, s, m, args, below, meth, c0⟩, A, D, dA, mi⟩ := G
  obtain ⟨hx, hb, hml, hown, hts, hr, hlk, hK, hnm, hfr, hlc⟩ := hF
  exact List.forall_mem_cons.mpr ⟨⟨RX1, TX1, 34, "StoryColumnsModel", tyX1 10, rfl, in_X1, Nat.le_of_ble_eq_true rfl, Or.inl ⟨(hts _ q1048), Or.inl rfl⟩, fun _ h => h, tyX1_ok 10 (Nat.le_of_ble_eq_true rfl), rfl, rfl, ap_1 hts hK⟩, fun _ h9 => absurd h9 List.not_mem_nil⟩
def fX1_line_J45 (l0 : Option Nat) (l1 : Int32) (l2 : Int32) (l3 : Int32) (l4 : Int32) (l5 : Int32) (l6 : Int32) (s0 : Int32) (M : Mp) (z : Nat) : Rs Int32 := cb (fX1_within l3 (1 : Int32) l6 M z) z fun v1 M2 z3 =>
if v1 = 0 then
  (some ((-2 : Int32), M2, 0, 0))
else
  (cb (fX1_within l4 (0 : Int32) l5 M2 z3) z3 fun v4 M5 z6 =>
if v4 = 0 then
  (some ((-2 : Int32), M5, 0, 0))
else
  (if s0 < l5 then
  (some ((-2 : Int32), M5, 0, 0))
else
  ((gi M5 l0 [1] 10).bind fun v7 =>
if v7 = (12 : Int32) then
  (some ((-4 : Int32), M5, 0, 0))
else
  ((gr M5 l0 [1] 11).bind fun v8 =>
(gi M5 l0 [1] 10).bind fun v9 =>
(si M5 0 v8 v9 l1).bind fun M10 =>
(gr M10 l0 [1] 12).bind fun v11 =>
(gi M10 l0 [1] 10).bind fun v12 =>
(si M10 0 v11 v12 l2).bind fun M13 =>
(gr M13 l0 [1] 13).bind fun v14 =>
(gi M13 l0 [1] 10).bind fun v15 =>
(si M13 0 v14 v15 l3).bind fun M16 =>
(gr M16 l0 [1] 14).bind fun v17 =>
(gi M16 l0 [1] 10).bind fun v18 =>
(si M16 0 v17 v18 l4).bind fun M19 =>
(gr M19 l0 [1] 15).bind fun v20 =>
(gi M19 l0 [1] 10).bind fun v21 =>
(si M19 0 v20 v21 l5).bind fun M22 =>
(gi M22 l0 [1] 10).bind fun v23 =>
(pu M22 l0 [1] 10 (.int (v23 + (1 : Int32)))).bind fun M24 =>
(gi M24 l0 [1] 10).bind fun v25 =>
some ((v25 - (1 : Int32)), M24, 0, 0)))))

theorem gX1_line_J45 {G : Cx} {F : Option Value × Mp × Nat} (hF : FX G cX1_line 8 RX1 (Option.some Jvm.ClassFile.FieldType.int) "line" 1 22) (l0 : Option Nat) (l1 : Int32) (l2 : Int32) (l3 : Int32) (l4 : Int32) (l5 : Int32) (l6 : Int32) (s0 : Int32) (M : Mp) (z : Nat) : SK G F 8 eI 45 [some (va_rf l0), some (.int l1), some (.int l2), some (.int l3), some (.int l4), some (.int l5), some (.int l6), none] [.int s0] M z (fX1_line_J45 l0 l1 l2 l3 l4 l5 l6 s0 M z) := by
  unfold fX1_line_J45
  refine s_istore (L9 := [some (va_rf l0), some (.int l1), some (.int l2), some (.int l3), some (.int l4), some (.int l5), some (.int l6), some (.int s0)]) (pc := 45) hF dX1_line_45 (Nat.le_of_ble_eq_true rfl) rfl ?_
  refine s_iload_n (pc := 47) hF dX1_line_47 rfl rfl ?_
  refine s_iconst (pc := 48) hF dX1_line_48 (1 : Int32) (by decide) ?_
  refine s_iload (pc := 49) hF dX1_line_49 rfl ?_
  refine s_callS (pc := 51) (As := [.int l3, .int (1 : Int32), .int l6]) (st := []) (stf := fun r9 => .int r9 :: []) hF (mX1_within l3 (1 : Int32) l6) cw_X1_within q1147 q1148 rfl ⟨Nat.le_of_ble_eq_true rfl, Nat.le_of_ble_eq_true rfl⟩ ⟨trivial, Nat.le_of_ble_eq_true rfl⟩ dX1_line_51 rfl (fun _ => rfl) (fun v1 M2 z3 => ?_)
  refine s_if_eq (pc := 54) hF 75 dX1_line_54 rfl ?_ ?_
  · refine s_bipush (pc := 75) hF dX1_line_75 (-2 : Int32) (by decide) ?_
    exact s_iret (pc := 77) hF dX1_line_77
  · refine s_iload (pc := 57) hF dX1_line_57 rfl ?_
    refine s_iconst (pc := 59) hF dX1_line_59 (0 : Int32) (by decide) ?_
    refine s_iload (pc := 60) hF dX1_line_60 rfl ?_
    refine s_callS (pc := 62) (As := [.int l4, .int (0 : Int32), .int l5]) (st := []) (stf := fun r9 => .int r9 :: []) hF (mX1_within l4 (0 : Int32) l5) cw_X1_within q1147 q1148 rfl ⟨Nat.le_of_ble_eq_true rfl, Nat.le_of_ble_eq_true rfl⟩ ⟨trivial, Nat.le_of_ble_eq_true rfl⟩ dX1_line_62 rfl (fun _ => rfl) (fun v4 M5 z6 => ?_)
    refine s_if_eq (pc := 65) hF 75 dX1_line_65 rfl ?_ ?_
    · refine s_bipush (pc := 75) hF dX1_line_75 (-2 : Int32) (by decide) ?_
      exact s_iret (pc := 77) hF dX1_line_77
    · refine s_iload (pc := 68) hF dX1_line_68 rfl ?_
      refine s_iload (pc := 70) hF dX1_line_70 rfl ?_
      refine s_icmp_le (pc := 72) hF 78 dX1_line_72 rfl ?_ ?_
      · refine s_aload_n (pc := 78) hF dX1_line_78 rfl rfl ?_
        refine s_geti (pc := 79) hF (fl_X1_114 hF) dX1_line_79 (fun v7 => ?_)
        refine s_bipush (pc := 82) hF dX1_line_82 (12 : Int32) (by decide) ?_
        refine s_icmp_ne (pc := 84) hF 90 dX1_line_84 rfl ?_ ?_
        · refine s_aload_n (pc := 90) hF dX1_line_90 rfl rfl ?_
          refine s_getr (pc := 91) hF (fl_X1_37 hF) dX1_line_91 (fun v8 => ?_)
          refine s_aload_n (pc := 94) hF dX1_line_94 rfl rfl ?_
          refine s_geti (pc := 95) hF (fl_X1_114 hF) dX1_line_95 (fun v9 => ?_)
          refine s_iload_n (pc := 98) hF dX1_line_98 rfl rfl ?_
          refine s_iast (pc := 99) hF dX1_line_99 (fun M10 => ?_)
          refine s_aload_n (pc := 100) hF dX1_line_100 rfl rfl ?_
          refine s_getr (pc := 101) hF (fl_X1_40 hF) dX1_line_101 (fun v11 => ?_)
          refine s_aload_n (pc := 104) hF dX1_line_104 rfl rfl ?_
          refine s_geti (pc := 105) hF (fl_X1_114 hF) dX1_line_105 (fun v12 => ?_)
          refine s_iload_n (pc := 108) hF dX1_line_108 rfl rfl ?_
          refine s_iast (pc := 109) hF dX1_line_109 (fun M13 => ?_)
          refine s_aload_n (pc := 110) hF dX1_line_110 rfl rfl ?_
          refine s_getr (pc := 111) hF (fl_X1_43 hF) dX1_line_111 (fun v14 => ?_)
          refine s_aload_n (pc := 114) hF dX1_line_114 rfl rfl ?_
          refine s_geti (pc := 115) hF (fl_X1_114 hF) dX1_line_115 (fun v15 => ?_)
          refine s_iload_n (pc := 118) hF dX1_line_118 rfl rfl ?_
          refine s_iast (pc := 119) hF dX1_line_119 (fun M16 => ?_)
          refine s_aload_n (pc := 120) hF dX1_line_120 rfl rfl ?_
          refine s_getr (pc := 121) hF (fl_X1_46 hF) dX1_line_121 (fun v17 => ?_)
          refine s_aload_n (pc := 124) hF dX1_line_124 rfl rfl ?_
          refine s_geti (pc := 125) hF (fl_X1_114 hF) dX1_line_125 (fun v18 => ?_)
          refine s_iload (pc := 128) hF dX1_line_128 rfl ?_
          refine s_iast (pc := 130) hF dX1_line_130 (fun M19 => ?_)
          refine s_aload_n (pc := 131) hF dX1_line_131 rfl rfl ?_
          refine s_getr (pc := 132) hF (fl_X1_49 hF) dX1_line_132 (fun v20 => ?_)
          refine s_aload_n (pc := 135) hF dX1_line_135 rfl rfl ?_
          refine s_geti (pc := 136) hF (fl_X1_114 hF) dX1_line_136 (fun v21 => ?_)
          refine s_iload (pc := 139) hF dX1_line_139 rfl ?_
          refine s_iast (pc := 141) hF dX1_line_141 (fun M22 => ?_)
          refine s_aload_n (pc := 142) hF dX1_line_142 rfl rfl ?_
          refine s_dup (pc := 143) hF dX1_line_143 (ct _) ?_
          refine s_geti (pc := 144) hF (fl_X1_114 hF) dX1_line_144 (fun v23 => ?_)
          refine s_iconst (pc := 147) hF dX1_line_147 (1 : Int32) (by decide) ?_
          refine s_iadd (pc := 148) hF dX1_line_148 ?_
          refine s_put (pc := 149) hF (pl_X1_114 hF _) dX1_line_149 (fun M24 => ?_)
          refine s_aload_n (pc := 152) hF dX1_line_152 rfl rfl ?_
          refine s_geti (pc := 153) hF (fl_X1_114 hF) dX1_line_153 (fun v25 => ?_)
          refine s_iconst (pc := 156) hF dX1_line_156 (1 : Int32) (by decide) ?_
          refine s_isub (pc := 157) hF dX1_line_157 ?_
          exact s_iret (pc := 158) hF dX1_line_158
        · refine s_bipush (pc := 87) hF dX1_line_87 (-4 : Int32) (by decide) ?_
          exact s_iret (pc := 89) hF dX1_line_89
      · refine s_bipush (pc := 75) hF dX1_line_75 (-2 : Int32) (by decide) ?_
        exact s_iret (pc := 77) hF dX1_line_77

def fX1_line_J32 (l0 : Option Nat) (l1 : Int32) (l2 : Int32) (l3 : Int32) (l4 : Int32) (l5 : Int32) (s0 : Int32) (M : Mp) (z : Nat) : Rs Int32 := if l2 = 0 then
  (fX1_line_J45 l0 l1 l2 l3 l4 l5 s0 (29 : Int32) M z)
else
  (fX1_line_J45 l0 l1 l2 l3 l4 l5 s0 (7 : Int32) M z)

theorem gX1_line_J32 {G : Cx} {F : Option Value × Mp × Nat} (hF : FX G cX1_line 8 RX1 (Option.some Jvm.ClassFile.FieldType.int) "line" 1 22) (l0 : Option Nat) (l1 : Int32) (l2 : Int32) (l3 : Int32) (l4 : Int32) (l5 : Int32) (s0 : Int32) (M : Mp) (z : Nat) : SK G F 8 eI 32 [some (va_rf l0), some (.int l1), some (.int l2), some (.int l3), some (.int l4), some (.int l5), none, none] [.int s0] M z (fX1_line_J32 l0 l1 l2 l3 l4 l5 s0 M z) := by
  unfold fX1_line_J32
  refine s_istore (L9 := [some (va_rf l0), some (.int l1), some (.int l2), some (.int l3), some (.int l4), some (.int l5), some (.int s0), none]) (pc := 32) hF dX1_line_32 (Nat.le_of_ble_eq_true rfl) rfl ?_
  refine s_iload_n (pc := 34) hF dX1_line_34 rfl rfl ?_
  refine s_if_ne (pc := 35) hF 43 dX1_line_35 rfl ?_ ?_
  · refine s_bipush (pc := 43) hF dX1_line_43 (7 : Int32) (by decide) ?_
    exact SK.sb (gX1_line_J45 hF l0 l1 l2 l3 l4 l5 s0 (7 : Int32) M z) ⟨rfl, ⟨rfl, ⟨rfl, ⟨rfl, ⟨rfl, ⟨rfl, ⟨rfl, trivial⟩⟩⟩⟩⟩⟩⟩
  · refine s_bipush (pc := 38) hF dX1_line_38 (29 : Int32) (by decide) ?_
    refine s_goto (pc := 40) hF 45 dX1_line_40 rfl ?_
    exact SK.sb (gX1_line_J45 hF l0 l1 l2 l3 l4 l5 s0 (29 : Int32) M z) ⟨rfl, ⟨rfl, ⟨rfl, ⟨rfl, ⟨rfl, ⟨rfl, ⟨rfl, trivial⟩⟩⟩⟩⟩⟩⟩
def fX1_line (a0 : Option Nat) (a1 : Int32) (a2 : Int32) (a3 : Int32) (a4 : Int32) (a5 : Int32) (M : Mp) (z : Nat) : Rs Int32 := cb (fX1_within a1 (0 : Int32) (3 : Int32) M z) z fun v1 M2 z3 =>
if v1 = 0 then
  (some ((-2 : Int32), M2, 0, 0))
else
  (cb (fX1_within a2 (0 : Int32) (1 : Int32) M2 z3) z3 fun v4 M5 z6 =>
if v4 = 0 then
  (some ((-2 : Int32), M5, 0, 0))
else
  (if a2 = 0 then
  (fX1_line_J32 a0 a1 a2 a3 a4 a5 (7 : Int32) M5 z6)
else
  (fX1_line_J32 a0 a1 a2 a3 a4 a5 (29 : Int32) M5 z6)))
theorem gX1_line {G : Cx} {F : Option Value × Mp × Nat} (hF : FX G cX1_line 8 RX1 (Option.some Jvm.ClassFile.FieldType.int) "line" 1 22) (a0 : Option Nat) (a1 : Int32) (a2 : Int32) (a3 : Int32) (a4 : Int32) (a5 : Int32) (M : Mp) (z : Nat) : SK G F 8 eI 0 [some (va_rf a0), some (.int a1), some (.int a2), some (.int a3), some (.int a4), some (.int a5), none, none] [] M z (fX1_line a0 a1 a2 a3 a4 a5 M z) := by
  unfold fX1_line
  refine s_iload_n (pc := 0) hF dX1_line_0 rfl rfl ?_
  refine s_iconst (pc := 1) hF dX1_line_1 (0 : Int32) (by decide) ?_
  refine s_iconst (pc := 2) hF dX1_line_2 (3 : Int32) (by decide) ?_
  refine s_callS (pc := 3) (As := [.int a1, .int (0 : Int32), .int (3 : Int32)]) (st := []) (stf := fun r9 => .int r9 :: []) hF (mX1_within a1 (0 : Int32) (3 : Int32)) cw_X1_within q1147 q1148 rfl ⟨Nat.le_of_ble_eq_true rfl, Nat.le_of_ble_eq_true rfl⟩ ⟨trivial, Nat.le_of_ble_eq_true rfl⟩ dX1_line_3 rfl (fun _ => rfl) (fun v1 M2 z3 => ?_)
  refine s_if_eq (pc := 6) hF 18 dX1_line_6 rfl ?_ ?_
  · refine s_bipush (pc := 18) hF dX1_line_18 (-2 : Int32) (by decide) ?_
    exact s_iret (pc := 20) hF dX1_line_20
  · refine s_iload_n (pc := 9) hF dX1_line_9 rfl rfl ?_
    refine s_iconst (pc := 10) hF dX1_line_10 (0 : Int32) (by decide) ?_
    refine s_iconst (pc := 11) hF dX1_line_11 (1 : Int32) (by decide) ?_
    refine s_callS (pc := 12) (As := [.int a2, .int (0 : Int32), .int (1 : Int32)]) (st := []) (stf := fun r9 => .int r9 :: []) hF (mX1_within a2 (0 : Int32) (1 : Int32)) cw_X1_within q1147 q1148 rfl ⟨Nat.le_of_ble_eq_true rfl, Nat.le_of_ble_eq_true rfl⟩ ⟨trivial, Nat.le_of_ble_eq_true rfl⟩ dX1_line_12 rfl (fun _ => rfl) (fun v4 M5 z6 => ?_)
    refine s_if_ne (pc := 15) hF 21 dX1_line_15 rfl ?_ ?_
    · refine s_iload_n (pc := 21) hF dX1_line_21 rfl rfl ?_
      refine s_if_ne (pc := 22) hF 30 dX1_line_22 rfl ?_ ?_
      · refine s_bipush (pc := 30) hF dX1_line_30 (29 : Int32) (by decide) ?_
        exact SK.sb (gX1_line_J32 hF a0 a1 a2 a3 a4 a5 (29 : Int32) M5 z6) ⟨rfl, ⟨rfl, ⟨rfl, ⟨rfl, ⟨rfl, ⟨rfl, trivial⟩⟩⟩⟩⟩⟩
      · refine s_bipush (pc := 25) hF dX1_line_25 (7 : Int32) (by decide) ?_
        refine s_goto (pc := 27) hF 32 dX1_line_27 rfl ?_
        exact SK.sb (gX1_line_J32 hF a0 a1 a2 a3 a4 a5 (7 : Int32) M5 z6) ⟨rfl, ⟨rfl, ⟨rfl, ⟨rfl, ⟨rfl, ⟨rfl, trivial⟩⟩⟩⟩⟩⟩
    · refine s_bipush (pc := 18) hF dX1_line_18 (-2 : Int32) (by decide) ?_
      exact s_iret (pc := 20) hF dX1_line_20
theorem mX1_line (a0 : Option Nat) (a1 : Int32) (a2 : Int32) (a3 : Int32) (a4 : Int32) (a5 : Int32) : MT yX1_line cX1_line 8 (Option.some Jvm.ClassFile.FieldType.int) 1 22 eI [va_rf a0, .int a1, .int a2, .int a3, .int a4, .int a5] (fX1_line a0 a1 a2 a3 a4 a5) :=
  MT.of (L0 := [some (va_rf a0), some (.int a1), some (.int a2), some (.int a3), some (.int a4), some (.int a5), none, none]) (by decide) ⟨ct _, ⟨rfl, ⟨rfl, ⟨rfl, ⟨rfl, ⟨rfl, trivial⟩⟩⟩⟩⟩⟩ (Nat.le_of_ble_eq_true rfl) rfl (fun _ _ hF M z => gX1_line hF a0 a1 a2 a3 a4 a5 M z)

def fX1_back (a0 : Option Nat) (M : Mp) (z : Nat) : Rs Int32 := (gi M a0 [1] 0).bind fun v1 =>
if v1 = 0 then
  (some ((-3 : Int32), M, 0, 0))
else
  ((gi M a0 [1] 0).bind fun v2 =>
(pu M a0 [1] 0 (.int (v2 - (1 : Int32)))).bind fun M3 =>
(gi M3 a0 [1] 0).bind fun v4 =>
some (v4, M3, 0, 0))
theorem gX1_back {G : Cx} {F : Option Value × Mp × Nat} (hF : FX G cX1_back 1 RX1 (Option.some Jvm.ClassFile.FieldType.int) "back" 0 0) (a0 : Option Nat) (M : Mp) (z : Nat) : SK G F 1 eI 0 [some (va_rf a0)] [] M z (fX1_back a0 M z) := by
  unfold fX1_back
  refine s_aload_n (pc := 0) hF dX1_back_0 rfl rfl ?_
  refine s_geti (pc := 1) hF (fl_X1_98 hF) dX1_back_1 (fun v1 => ?_)
  refine s_if_ne (pc := 4) hF 10 dX1_back_4 rfl ?_ ?_
  · refine s_aload_n (pc := 10) hF dX1_back_10 rfl rfl ?_
    refine s_dup (pc := 11) hF dX1_back_11 (ct _) ?_
    refine s_geti (pc := 12) hF (fl_X1_98 hF) dX1_back_12 (fun v2 => ?_)
    refine s_iconst (pc := 15) hF dX1_back_15 (1 : Int32) (by decide) ?_
    refine s_isub (pc := 16) hF dX1_back_16 ?_
    refine s_put (pc := 17) hF (pl_X1_98 hF _) dX1_back_17 (fun M3 => ?_)
    refine s_aload_n (pc := 20) hF dX1_back_20 rfl rfl ?_
    refine s_geti (pc := 21) hF (fl_X1_98 hF) dX1_back_21 (fun v4 => ?_)
    exact s_iret (pc := 24) hF dX1_back_24
  · refine s_bipush (pc := 7) hF dX1_back_7 (-3 : Int32) (by decide) ?_
    exact s_iret (pc := 9) hF dX1_back_9
theorem mX1_back (a0 : Option Nat) : MT yX1_back cX1_back 1 (Option.some Jvm.ClassFile.FieldType.int) 0 0 eI [va_rf a0] (fX1_back a0) :=
  MT.of (L0 := [some (va_rf a0)]) (by decide) ⟨ct _, trivial⟩ (Nat.le_of_ble_eq_true rfl) rfl (fun _ _ hF M z => gX1_back hF a0 M z)

def fX1_erase (a0 : Option Nat) (M : Mp) (z : Nat) : Rs Int32 := (gi M a0 [1] 10).bind fun v1 =>
if v1 = 0 then
  (some ((-3 : Int32), M, 0, 0))
else
  ((gi M a0 [1] 10).bind fun v2 =>
(pu M a0 [1] 10 (.int (v2 - (1 : Int32)))).bind fun M3 =>
(gi M3 a0 [1] 10).bind fun v4 =>
some (v4, M3, 0, 0))
theorem gX1_erase {G : Cx} {F : Option Value × Mp × Nat} (hF : FX G cX1_erase 1 RX1 (Option.some Jvm.ClassFile.FieldType.int) "erase" 0 0) (a0 : Option Nat) (M : Mp) (z : Nat) : SK G F 1 eI 0 [some (va_rf a0)] [] M z (fX1_erase a0 M z) := by
  unfold fX1_erase
  refine s_aload_n (pc := 0) hF dX1_erase_0 rfl rfl ?_
  refine s_geti (pc := 1) hF (fl_X1_114 hF) dX1_erase_1 (fun v1 => ?_)
  refine s_if_ne (pc := 4) hF 10 dX1_erase_4 rfl ?_ ?_
  · refine s_aload_n (pc := 10) hF dX1_erase_10 rfl rfl ?_
    refine s_dup (pc := 11) hF dX1_erase_11 (ct _) ?_
    refine s_geti (pc := 12) hF (fl_X1_114 hF) dX1_erase_12 (fun v2 => ?_)
    refine s_iconst (pc := 15) hF dX1_erase_15 (1 : Int32) (by decide) ?_
    refine s_isub (pc := 16) hF dX1_erase_16 ?_
    refine s_put (pc := 17) hF (pl_X1_114 hF _) dX1_erase_17 (fun M3 => ?_)
    refine s_aload_n (pc := 20) hF dX1_erase_20 rfl rfl ?_
    refine s_geti (pc := 21) hF (fl_X1_114 hF) dX1_erase_21 (fun v4 => ?_)
    exact s_iret (pc := 24) hF dX1_erase_24
  · refine s_bipush (pc := 7) hF dX1_erase_7 (-3 : Int32) (by decide) ?_
    exact s_iret (pc := 9) hF dX1_erase_9
theorem mX1_erase (a0 : Option Nat) : MT yX1_erase cX1_erase 1 (Option.some Jvm.ClassFile.FieldType.int) 0 0 eI [va_rf a0] (fX1_erase a0) :=
  MT.of (L0 := [some (va_rf a0)]) (by decide) ⟨ct _, trivial⟩ (Nat.le_of_ble_eq_true rfl) rfl (fun _ _ hF M z => gX1_erase hF a0 M z)

def fX1_clear (a0 : Option Nat) (M : Mp) (z : Nat) : Rs Int32 := (gi M a0 [1] 0).bind fun v1 =>
(pu M a0 [1] 0 (.int (0 : Int32))).bind fun M2 =>
(pu M2 a0 [1] 10 (.int (0 : Int32))).bind fun M3 =>
some (v1, M3, 0, 0)
theorem gX1_clear {G : Cx} {F : Option Value × Mp × Nat} (hF : FX G cX1_clear 2 RX1 (Option.some Jvm.ClassFile.FieldType.int) "clear" 0 0) (a0 : Option Nat) (M : Mp) (z : Nat) : SK G F 2 eI 0 [some (va_rf a0), none] [] M z (fX1_clear a0 M z) := by
  unfold fX1_clear
  refine s_aload_n (pc := 0) hF dX1_clear_0 rfl rfl ?_
  refine s_geti (pc := 1) hF (fl_X1_98 hF) dX1_clear_1 (fun v1 => ?_)
  refine s_istore_n (L9 := [some (va_rf a0), some (.int v1)]) (pc := 4) hF dX1_clear_4 rfl (Nat.le_of_ble_eq_true rfl) rfl ?_
  refine s_aload_n (pc := 5) hF dX1_clear_5 rfl rfl ?_
  refine s_iconst (pc := 6) hF dX1_clear_6 (0 : Int32) (by decide) ?_
  refine s_put (pc := 7) hF (pl_X1_98 hF _) dX1_clear_7 (fun M2 => ?_)
  refine s_aload_n (pc := 10) hF dX1_clear_10 rfl rfl ?_
  refine s_iconst (pc := 11) hF dX1_clear_11 (0 : Int32) (by decide) ?_
  refine s_put (pc := 12) hF (pl_X1_114 hF _) dX1_clear_12 (fun M3 => ?_)
  refine s_iload_n (pc := 15) hF dX1_clear_15 rfl rfl ?_
  exact s_iret (pc := 16) hF dX1_clear_16
theorem mX1_clear (a0 : Option Nat) : MT yX1_clear cX1_clear 2 (Option.some Jvm.ClassFile.FieldType.int) 0 0 eI [va_rf a0] (fX1_clear a0) :=
  MT.of (L0 := [some (va_rf a0), none]) (by decide) ⟨ct _, trivial⟩ (Nat.le_of_ble_eq_true rfl) rfl (fun _ _ hF M z => gX1_clear hF a0 M z)

def fX1_turn_J137 (r70 : Option Nat → Int32 → Int32 → Mp → Nat → Rs Int32) (l0 : Option Nat) (l1 : Int32) (l2 : Int32) (M : Mp) (z : Nat) : Rs Int32 := r70 l0 l1 (l2 + 1) M z

theorem gX1_turn_J137 {G : Cx} {F : Option Value × Mp × Nat}  {r70 : Option Nat → Int32 → Int32 → Mp → Nat → Rs Int32}(hF : FX G cX1_turn 4 RX1 (Option.some Jvm.ClassFile.FieldType.int) "turn" 0 0) (hr70 : ∀ l0 l1 l2 M z, SK G F 4 eI 70 [some (va_rf l0), some (.int l1), some (.int l2), none] [] M z (r70 l0 l1 l2 M z)) (l0 : Option Nat) (l1 : Int32) (l2 : Int32) (M : Mp) (z : Nat) : SK G F 4 eI 137 [some (va_rf l0), some (.int l1), some (.int l2), none] [] M z (fX1_turn_J137 r70 l0 l1 l2 M z) := by
  unfold fX1_turn_J137
  refine s_iinc (v := l2 + 1) (L9 := [some (va_rf l0), some (.int l1), some (.int (l2 + 1)), none]) (pc := 137) hF dX1_turn_137 rfl rfl (Nat.le_of_ble_eq_true rfl) rfl ?_
  refine s_goto (pc := 140) hF 70 dX1_turn_140 rfl ?_
  exact SK.sb (hr70 l0 l1 (l2 + 1) M z) ⟨rfl, ⟨rfl, ⟨rfl, trivial⟩⟩⟩

def fX1_turn_L70 : Nat → Option Nat → Int32 → Int32 → Mp → Nat → Rs Int32
  | 0, _, _, _, _, _ => none
  | fu + 1, l0, l1, l2, M, z => (gi M l0 [1] 10).bind fun v1 =>
if l2 < v1 then
  ((gr M l0 [1] 12).bind fun v2 =>
(ai M 0 v2 l2).bind fun v3 =>
if v3 = 0 then
  ((gr M l0 [1] 13).bind fun v12 =>
(gr M l0 [1] 13).bind fun v13 =>
(ai M 0 v13 l2).bind fun v14 =>
(si M 0 v12 l2 ((8 : Int32) - v14)).bind fun M15 =>
fX1_turn_J137 (fX1_turn_L70 fu) l0 l1 l2 M15 z)
else
  ((gr M l0 [1] 14).bind fun v4 =>
(ai M 0 v4 l2).bind fun v5 =>
(gr M l0 [1] 14).bind fun v6 =>
(gr M l0 [1] 15).bind fun v7 =>
(ai M 0 v7 l2).bind fun v8 =>
(si M 0 v6 l2 ((7 : Int32) - v8)).bind fun M9 =>
(gr M9 l0 [1] 15).bind fun v10 =>
(si M9 0 v10 l2 ((7 : Int32) - v5)).bind fun M11 =>
fX1_turn_J137 (fX1_turn_L70 fu) l0 l1 l2 M11 z))
else
  (some (l1, M, 0, 0))

theorem gX1_turn_L70 {G : Cx} {F : Option Value × Mp × Nat} (hF : FX G cX1_turn 4 RX1 (Option.some Jvm.ClassFile.FieldType.int) "turn" 0 0) : ∀ (fu : Nat) (l0 : Option Nat) (l1 : Int32) (l2 : Int32) (M : Mp) (z : Nat), SK G F 4 eI 70 [some (va_rf l0), some (.int l1), some (.int l2), none] [] M z (fX1_turn_L70 fu l0 l1 l2 M z) := by
  intro fu
  induction fu with
  | zero => intros; exact SK.fail
  | succ fu ih =>
    intro l0 l1 l2 M z
    rw [fX1_turn_L70]
    refine s_iload_n (pc := 70) hF dX1_turn_70 rfl rfl ?_
    refine s_aload_n (pc := 71) hF dX1_turn_71 rfl rfl ?_
    refine s_geti (pc := 72) hF (fl_X1_114 hF) dX1_turn_72 (fun v1 => ?_)
    refine s_icmp_ge (pc := 75) hF 143 dX1_turn_75 rfl ?_ ?_
    · refine s_iload_n (pc := 143) hF dX1_turn_143 rfl rfl ?_
      exact s_iret (pc := 144) hF dX1_turn_144
    · refine s_aload_n (pc := 78) hF dX1_turn_78 rfl rfl ?_
      refine s_getr (pc := 79) hF (fl_X1_40 hF) dX1_turn_79 (fun v2 => ?_)
      refine s_iload_n (pc := 82) hF dX1_turn_82 rfl rfl ?_
      refine s_iald (pc := 83) hF dX1_turn_83 (fun v3 => ?_)
      refine s_if_ne (pc := 84) hF 105 dX1_turn_84 rfl ?_ ?_
      · refine s_aload_n (pc := 105) hF dX1_turn_105 rfl rfl ?_
        refine s_getr (pc := 106) hF (fl_X1_46 hF) dX1_turn_106 (fun v4 => ?_)
        refine s_iload_n (pc := 109) hF dX1_turn_109 rfl rfl ?_
        refine s_iald (pc := 110) hF dX1_turn_110 (fun v5 => ?_)
        refine s_istore_n (L9 := [some (va_rf l0), some (.int l1), some (.int l2), some (.int v5)]) (pc := 111) hF dX1_turn_111 rfl (Nat.le_of_ble_eq_true rfl) rfl ?_
        refine s_aload_n (pc := 112) hF dX1_turn_112 rfl rfl ?_
        refine s_getr (pc := 113) hF (fl_X1_46 hF) dX1_turn_113 (fun v6 => ?_)
        refine s_iload_n (pc := 116) hF dX1_turn_116 rfl rfl ?_
        refine s_bipush (pc := 117) hF dX1_turn_117 (7 : Int32) (by decide) ?_
        refine s_aload_n (pc := 119) hF dX1_turn_119 rfl rfl ?_
        refine s_getr (pc := 120) hF (fl_X1_49 hF) dX1_turn_120 (fun v7 => ?_)
        refine s_iload_n (pc := 123) hF dX1_turn_123 rfl rfl ?_
        refine s_iald (pc := 124) hF dX1_turn_124 (fun v8 => ?_)
        refine s_isub (pc := 125) hF dX1_turn_125 ?_
        refine s_iast (pc := 126) hF dX1_turn_126 (fun M9 => ?_)
        refine s_aload_n (pc := 127) hF dX1_turn_127 rfl rfl ?_
        refine s_getr (pc := 128) hF (fl_X1_49 hF) dX1_turn_128 (fun v10 => ?_)
        refine s_iload_n (pc := 131) hF dX1_turn_131 rfl rfl ?_
        refine s_bipush (pc := 132) hF dX1_turn_132 (7 : Int32) (by decide) ?_
        refine s_iload_n (pc := 134) hF dX1_turn_134 rfl rfl ?_
        refine s_isub (pc := 135) hF dX1_turn_135 ?_
        refine s_iast (pc := 136) hF dX1_turn_136 (fun M11 => ?_)
        exact SK.sb (gX1_turn_J137 hF ih l0 l1 l2 M11 z) ⟨rfl, ⟨rfl, ⟨rfl, trivial⟩⟩⟩
      · refine s_aload_n (pc := 87) hF dX1_turn_87 rfl rfl ?_
        refine s_getr (pc := 88) hF (fl_X1_43 hF) dX1_turn_88 (fun v12 => ?_)
        refine s_iload_n (pc := 91) hF dX1_turn_91 rfl rfl ?_
        refine s_bipush (pc := 92) hF dX1_turn_92 (8 : Int32) (by decide) ?_
        refine s_aload_n (pc := 94) hF dX1_turn_94 rfl rfl ?_
        refine s_getr (pc := 95) hF (fl_X1_43 hF) dX1_turn_95 (fun v13 => ?_)
        refine s_iload_n (pc := 98) hF dX1_turn_98 rfl rfl ?_
        refine s_iald (pc := 99) hF dX1_turn_99 (fun v14 => ?_)
        refine s_isub (pc := 100) hF dX1_turn_100 ?_
        refine s_iast (pc := 101) hF dX1_turn_101 (fun M15 => ?_)
        refine s_goto (pc := 102) hF 137 dX1_turn_102 rfl ?_
        exact SK.sb (gX1_turn_J137 hF ih l0 l1 l2 M15 z) ⟨rfl, ⟨rfl, ⟨rfl, trivial⟩⟩⟩

def fX1_turn_J60 (r4 : Option Nat → Int32 → Int32 → Mp → Nat → Rs Int32) (l0 : Option Nat) (l2 : Int32) (s0 : Int32) (s1 : Int32) (M : Mp) (z : Nat) : Rs Int32 := r4 l0 (s0 + s1) (l2 + 1) M z

theorem gX1_turn_J60 {G : Cx} {F : Option Value × Mp × Nat}  {r4 : Option Nat → Int32 → Int32 → Mp → Nat → Rs Int32}(hF : FX G cX1_turn 4 RX1 (Option.some Jvm.ClassFile.FieldType.int) "turn" 0 0) (hr4 : ∀ l0 l1 l2 M z, SK G F 4 eI 4 [some (va_rf l0), some (.int l1), some (.int l2), none] [] M z (r4 l0 l1 l2 M z)) (l0 : Option Nat) (l2 : Int32) (s0 : Int32) (s1 : Int32) (M : Mp) (z : Nat) : SK G F 4 eI 60 [some (va_rf l0), none, some (.int l2), none] [.int s1, .int s0] M z (fX1_turn_J60 r4 l0 l2 s0 s1 M z) := by
  unfold fX1_turn_J60
  refine s_iadd (pc := 60) hF dX1_turn_60 ?_
  refine s_istore_n (L9 := [some (va_rf l0), some (.int (s0 + s1)), some (.int l2), none]) (pc := 61) hF dX1_turn_61 rfl (Nat.le_of_ble_eq_true rfl) rfl ?_
  refine s_iinc (v := l2 + 1) (L9 := [some (va_rf l0), some (.int (s0 + s1)), some (.int (l2 + 1)), none]) (pc := 62) hF dX1_turn_62 rfl rfl (Nat.le_of_ble_eq_true rfl) rfl ?_
  refine s_goto (pc := 65) hF 4 dX1_turn_65 rfl ?_
  exact SK.sb (hr4 l0 (s0 + s1) (l2 + 1) M z) ⟨rfl, ⟨rfl, ⟨rfl, trivial⟩⟩⟩

def fX1_turn_L4 : Nat → Option Nat → Int32 → Int32 → Mp → Nat → Rs Int32
  | 0, _, _, _, _, _ => none
  | fu + 1, l0, l1, l2, M, z => (gi M l0 [1] 0).bind fun v1 =>
if l2 < v1 then
  ((gr M l0 [1] 3).bind fun v2 =>
(ai M 0 v2 l2).bind fun v3 =>
(gr M l0 [1] 3).bind fun v4 =>
(gr M l0 [1] 4).bind fun v5 =>
(ai M 0 v5 l2).bind fun v6 =>
(si M 0 v4 l2 ((7 : Int32) - v6)).bind fun M7 =>
(gr M7 l0 [1] 4).bind fun v8 =>
(si M7 0 v8 l2 ((7 : Int32) - v3)).bind fun M9 =>
(gr M9 l0 [1] 3).bind fun v10 =>
(ai M9 0 v10 l2).bind fun v11 =>
if v11 = v3 then
  (fX1_turn_J60 (fX1_turn_L4 fu) l0 l2 l1 (0 : Int32) M9 z)
else
  (fX1_turn_J60 (fX1_turn_L4 fu) l0 l2 l1 (1 : Int32) M9 z))
else
  (fX1_turn_L70 FU l0 l1 (0 : Int32) M z)

theorem gX1_turn_L4 {G : Cx} {F : Option Value × Mp × Nat} (hF : FX G cX1_turn 4 RX1 (Option.some Jvm.ClassFile.FieldType.int) "turn" 0 0) : ∀ (fu : Nat) (l0 : Option Nat) (l1 : Int32) (l2 : Int32) (M : Mp) (z : Nat), SK G F 4 eI 4 [some (va_rf l0), some (.int l1), some (.int l2), none] [] M z (fX1_turn_L4 fu l0 l1 l2 M z) := by
  intro fu
  induction fu with
  | zero => intros; exact SK.fail
  | succ fu ih =>
    intro l0 l1 l2 M z
    rw [fX1_turn_L4]
    refine s_iload_n (pc := 4) hF dX1_turn_4 rfl rfl ?_
    refine s_aload_n (pc := 5) hF dX1_turn_5 rfl rfl ?_
    refine s_geti (pc := 6) hF (fl_X1_98 hF) dX1_turn_6 (fun v1 => ?_)
    refine s_icmp_ge (pc := 9) hF 68 dX1_turn_9 rfl ?_ ?_
    · refine s_iconst (pc := 68) hF dX1_turn_68 (0 : Int32) (by decide) ?_
      refine s_istore_n (L9 := [some (va_rf l0), some (.int l1), some (.int (0 : Int32)), none]) (pc := 69) hF dX1_turn_69 rfl (Nat.le_of_ble_eq_true rfl) rfl ?_
      exact SK.sb (gX1_turn_L70 hF FU l0 l1 (0 : Int32) M z) ⟨rfl, ⟨rfl, ⟨rfl, trivial⟩⟩⟩
    · refine s_aload_n (pc := 12) hF dX1_turn_12 rfl rfl ?_
      refine s_getr (pc := 13) hF (fl_X1_16 hF) dX1_turn_13 (fun v2 => ?_)
      refine s_iload_n (pc := 16) hF dX1_turn_16 rfl rfl ?_
      refine s_iald (pc := 17) hF dX1_turn_17 (fun v3 => ?_)
      refine s_istore_n (L9 := [some (va_rf l0), some (.int l1), some (.int l2), some (.int v3)]) (pc := 18) hF dX1_turn_18 rfl (Nat.le_of_ble_eq_true rfl) rfl ?_
      refine s_aload_n (pc := 19) hF dX1_turn_19 rfl rfl ?_
      refine s_getr (pc := 20) hF (fl_X1_16 hF) dX1_turn_20 (fun v4 => ?_)
      refine s_iload_n (pc := 23) hF dX1_turn_23 rfl rfl ?_
      refine s_bipush (pc := 24) hF dX1_turn_24 (7 : Int32) (by decide) ?_
      refine s_aload_n (pc := 26) hF dX1_turn_26 rfl rfl ?_
      refine s_getr (pc := 27) hF (fl_X1_19 hF) dX1_turn_27 (fun v5 => ?_)
      refine s_iload_n (pc := 30) hF dX1_turn_30 rfl rfl ?_
      refine s_iald (pc := 31) hF dX1_turn_31 (fun v6 => ?_)
      refine s_isub (pc := 32) hF dX1_turn_32 ?_
      refine s_iast (pc := 33) hF dX1_turn_33 (fun M7 => ?_)
      refine s_aload_n (pc := 34) hF dX1_turn_34 rfl rfl ?_
      refine s_getr (pc := 35) hF (fl_X1_19 hF) dX1_turn_35 (fun v8 => ?_)
      refine s_iload_n (pc := 38) hF dX1_turn_38 rfl rfl ?_
      refine s_bipush (pc := 39) hF dX1_turn_39 (7 : Int32) (by decide) ?_
      refine s_iload_n (pc := 41) hF dX1_turn_41 rfl rfl ?_
      refine s_isub (pc := 42) hF dX1_turn_42 ?_
      refine s_iast (pc := 43) hF dX1_turn_43 (fun M9 => ?_)
      refine s_iload_n (pc := 44) hF dX1_turn_44 rfl rfl ?_
      refine s_aload_n (pc := 45) hF dX1_turn_45 rfl rfl ?_
      refine s_getr (pc := 46) hF (fl_X1_16 hF) dX1_turn_46 (fun v10 => ?_)
      refine s_iload_n (pc := 49) hF dX1_turn_49 rfl rfl ?_
      refine s_iald (pc := 50) hF dX1_turn_50 (fun v11 => ?_)
      refine s_iload_n (pc := 51) hF dX1_turn_51 rfl rfl ?_
      refine s_icmp_ne (pc := 52) hF 59 dX1_turn_52 rfl ?_ ?_
      · refine s_iconst (pc := 59) hF dX1_turn_59 (1 : Int32) (by decide) ?_
        exact SK.sb (gX1_turn_J60 hF ih l0 l2 l1 (1 : Int32) M9 z) ⟨rfl, ⟨rfl, trivial⟩⟩
      · refine s_iconst (pc := 55) hF dX1_turn_55 (0 : Int32) (by decide) ?_
        refine s_goto (pc := 56) hF 60 dX1_turn_56 rfl ?_
        exact SK.sb (gX1_turn_J60 hF ih l0 l2 l1 (0 : Int32) M9 z) ⟨rfl, ⟨rfl, trivial⟩⟩
def fX1_turn (a0 : Option Nat) (M : Mp) (z : Nat) : Rs Int32 := fX1_turn_L4 FU a0 (0 : Int32) (0 : Int32) M z
theorem gX1_turn {G : Cx} {F : Option Value × Mp × Nat} (hF : FX G cX1_turn 4 RX1 (Option.some Jvm.ClassFile.FieldType.int) "turn" 0 0) (a0 : Option Nat) (M : Mp) (z : Nat) : SK G F 4 eI 0 [some (va_rf a0), none, none, none] [] M z (fX1_turn a0 M z) := by
  unfold fX1_turn
  refine s_iconst (pc := 0) hF dX1_turn_0 (0 : Int32) (by decide) ?_
  refine s_istore_n (L9 := [some (va_rf a0), some (.int (0 : Int32)), none, none]) (pc := 1) hF dX1_turn_1 rfl (Nat.le_of_ble_eq_true rfl) rfl ?_
  refine s_iconst (pc := 2) hF dX1_turn_2 (0 : Int32) (by decide) ?_
  refine s_istore_n (L9 := [some (va_rf a0), some (.int (0 : Int32)), some (.int (0 : Int32)), none]) (pc := 3) hF dX1_turn_3 rfl (Nat.le_of_ble_eq_true rfl) rfl ?_
  exact SK.sb (gX1_turn_L4 hF FU a0 (0 : Int32) (0 : Int32) M z) ⟨rfl, ⟨rfl, ⟨rfl, trivial⟩⟩⟩
theorem mX1_turn (a0 : Option Nat) : MT yX1_turn cX1_turn 4 (Option.some Jvm.ClassFile.FieldType.int) 0 0 eI [va_rf a0] (fX1_turn a0) :=
  MT.of (L0 := [some (va_rf a0), none, none, none]) (by decide) ⟨ct _, trivial⟩ (Nat.le_of_ble_eq_true rfl) rfl (fun _ _ hF M z => gX1_turn hF a0 M z)

def fX1_ofBlock (a0 : Option Nat) (a1 : Int32) (a2 : Int32) (M : Mp) (z : Nat) : Rs Int32 := if ckc M a0 [1] = true then
  (cb (fX1_isBlock a0 a1 M z) z fun v1 M2 z3 =>
if v1 = 0 then
  (some ((-1 : Int32), M2, 0, 0))
else
  (if a2 = 0 then
  ((gr M2 a0 [1] 1).bind fun v4 =>
(ai M2 0 v4 a1).bind fun v5 =>
some (v5, M2, 0, 0))
else if a2 = 1 then
  ((gr M2 a0 [1] 2).bind fun v6 =>
(ai M2 0 v6 a1).bind fun v7 =>
some (v7, M2, 0, 0))
else if a2 = 2 then
  ((gr M2 a0 [1] 3).bind fun v8 =>
(ai M2 0 v8 a1).bind fun v9 =>
some (v9, M2, 0, 0))
else if a2 = 3 then
  ((gr M2 a0 [1] 4).bind fun v10 =>
(ai M2 0 v10 a1).bind fun v11 =>
some (v11, M2, 0, 0))
else if a2 = 4 then
  ((gr M2 a0 [1] 5).bind fun v12 =>
(ai M2 0 v12 a1).bind fun v13 =>
some (v13, M2, 0, 0))
else if a2 = 5 then
  ((gr M2 a0 [1] 6).bind fun v14 =>
(ai M2 0 v14 a1).bind fun v15 =>
some (v15, M2, 0, 0))
else if a2 = 6 then
  ((gr M2 a0 [1] 7).bind fun v16 =>
(ai M2 0 v16 a1).bind fun v17 =>
some (v17, M2, 0, 0))
else 
  (some ((-2 : Int32), M2, 0, 0))))
else none
theorem gX1_ofBlock {G : Cx} {F : Option Value × Mp × Nat} (hF : FX G cX1_ofBlock 3 RX1 (Option.some Jvm.ClassFile.FieldType.int) "ofBlock" 2 43) (a0 : Option Nat) (a1 : Int32) (a2 : Int32) (M : Mp) (z : Nat) : SK G F 3 eI 0 [some (va_rf a0), some (.int a1), some (.int a2)] [] M z (fX1_ofBlock a0 a1 a2 M z) := by
  unfold fX1_ofBlock
  refine s_aload_n (pc := 0) hF dX1_ofBlock_0 rfl rfl ?_
  refine s_iload_n (pc := 1) hF dX1_ofBlock_1 rfl rfl ?_
  refine s_callV (pc := 2) (As := [.int a1]) (st := []) (stf := fun r9 => .int r9 :: []) hF (mX1_isBlock a0 a1) cw_X1_isBlock q1158 q1160 (List.forall_mem_cons.mpr ⟨⟨(RX1, TX1, 34), rfl, qs28⟩, fun _ h9 => absurd h9 List.not_mem_nil⟩) rfl ⟨Nat.le_of_ble_eq_true rfl, Nat.le_of_ble_eq_true rfl⟩ ⟨trivial, Nat.le_of_ble_eq_true rfl⟩ dX1_ofBlock_2 rfl (fun _ => rfl) (fun v1 M2 z3 => ?_)
  refine s_if_ne (pc := 5) hF 10 dX1_ofBlock_5 rfl ?_ ?_
  · refine s_iload_n (pc := 10) hF dX1_ofBlock_10 rfl rfl ?_
    refine s_case (v := 0) (pc := 11) hF 52 dX1_ofBlock_11 (by decide) rfl rfl ?_ (fun h9_0 => ?_)
    · refine s_aload_n (pc := 52) hF dX1_ofBlock_52 rfl rfl ?_
      refine s_getr (pc := 53) hF (fl_X1_7 hF) dX1_ofBlock_53 (fun v4 => ?_)
      refine s_iload_n (pc := 56) hF dX1_ofBlock_56 rfl rfl ?_
      refine s_iald (pc := 57) hF dX1_ofBlock_57 (fun v5 => ?_)
      exact s_iret (pc := 58) hF dX1_ofBlock_58
    refine s_case (v := 1) (pc := 11) hF 59 dX1_ofBlock_11 (by decide) rfl rfl ?_ (fun h9_1 => ?_)
    · refine s_aload_n (pc := 59) hF dX1_ofBlock_59 rfl rfl ?_
      refine s_getr (pc := 60) hF (fl_X1_13 hF) dX1_ofBlock_60 (fun v6 => ?_)
      refine s_iload_n (pc := 63) hF dX1_ofBlock_63 rfl rfl ?_
      refine s_iald (pc := 64) hF dX1_ofBlock_64 (fun v7 => ?_)
      exact s_iret (pc := 65) hF dX1_ofBlock_65
    refine s_case (v := 2) (pc := 11) hF 66 dX1_ofBlock_11 (by decide) rfl rfl ?_ (fun h9_2 => ?_)
    · refine s_aload_n (pc := 66) hF dX1_ofBlock_66 rfl rfl ?_
      refine s_getr (pc := 67) hF (fl_X1_16 hF) dX1_ofBlock_67 (fun v8 => ?_)
      refine s_iload_n (pc := 70) hF dX1_ofBlock_70 rfl rfl ?_
      refine s_iald (pc := 71) hF dX1_ofBlock_71 (fun v9 => ?_)
      exact s_iret (pc := 72) hF dX1_ofBlock_72
    refine s_case (v := 3) (pc := 11) hF 73 dX1_ofBlock_11 (by decide) rfl rfl ?_ (fun h9_3 => ?_)
    · refine s_aload_n (pc := 73) hF dX1_ofBlock_73 rfl rfl ?_
      refine s_getr (pc := 74) hF (fl_X1_19 hF) dX1_ofBlock_74 (fun v10 => ?_)
      refine s_iload_n (pc := 77) hF dX1_ofBlock_77 rfl rfl ?_
      refine s_iald (pc := 78) hF dX1_ofBlock_78 (fun v11 => ?_)
      exact s_iret (pc := 79) hF dX1_ofBlock_79
    refine s_case (v := 4) (pc := 11) hF 80 dX1_ofBlock_11 (by decide) rfl rfl ?_ (fun h9_4 => ?_)
    · refine s_aload_n (pc := 80) hF dX1_ofBlock_80 rfl rfl ?_
      refine s_getr (pc := 81) hF (fl_X1_22 hF) dX1_ofBlock_81 (fun v12 => ?_)
      refine s_iload_n (pc := 84) hF dX1_ofBlock_84 rfl rfl ?_
      refine s_iald (pc := 85) hF dX1_ofBlock_85 (fun v13 => ?_)
      exact s_iret (pc := 86) hF dX1_ofBlock_86
    refine s_case (v := 5) (pc := 11) hF 87 dX1_ofBlock_11 (by decide) rfl rfl ?_ (fun h9_5 => ?_)
    · refine s_aload_n (pc := 87) hF dX1_ofBlock_87 rfl rfl ?_
      refine s_getr (pc := 88) hF (fl_X1_25 hF) dX1_ofBlock_88 (fun v14 => ?_)
      refine s_iload_n (pc := 91) hF dX1_ofBlock_91 rfl rfl ?_
      refine s_iald (pc := 92) hF dX1_ofBlock_92 (fun v15 => ?_)
      exact s_iret (pc := 93) hF dX1_ofBlock_93
    refine s_case (v := 6) (pc := 11) hF 94 dX1_ofBlock_11 (by decide) rfl rfl ?_ (fun h9_6 => ?_)
    · refine s_aload_n (pc := 94) hF dX1_ofBlock_94 rfl rfl ?_
      refine s_getr (pc := 95) hF (fl_X1_28 hF) dX1_ofBlock_95 (fun v16 => ?_)
      refine s_iload_n (pc := 98) hF dX1_ofBlock_98 rfl rfl ?_
      refine s_iald (pc := 99) hF dX1_ofBlock_99 (fun v17 => ?_)
      exact s_iret (pc := 100) hF dX1_ofBlock_100
    refine s_dflt (pc := 11) hF 101 dX1_ofBlock_11 (by
    have := lv_neT (a := 0) h9_0 rfl
    have := lv_neT (a := 1) h9_1 rfl
    have := lv_neT (a := 2) h9_2 rfl
    have := lv_neT (a := 3) h9_3 rfl
    have := lv_neT (a := 4) h9_4 rfl
    have := lv_neT (a := 5) h9_5 rfl
    have := lv_neT (a := 6) h9_6 rfl
    omega) rfl ?_
    refine s_bipush (pc := 101) hF dX1_ofBlock_101 (-2 : Int32) (by decide) ?_
    exact s_iret (pc := 103) hF dX1_ofBlock_103
  · refine s_iconst (pc := 8) hF dX1_ofBlock_8 (-1 : Int32) (by decide) ?_
    exact s_iret (pc := 9) hF dX1_ofBlock_9
theorem mX1_ofBlock (a0 : Option Nat) (a1 : Int32) (a2 : Int32) : MT yX1_ofBlock cX1_ofBlock 3 (Option.some Jvm.ClassFile.FieldType.int) 2 43 eI [va_rf a0, .int a1, .int a2] (fX1_ofBlock a0 a1 a2) :=
  MT.of (L0 := [some (va_rf a0), some (.int a1), some (.int a2)]) (by decide) ⟨ct _, ⟨rfl, ⟨rfl, trivial⟩⟩⟩ (Nat.le_of_ble_eq_true rfl) rfl (fun _ _ hF M z => gX1_ofBlock hF a0 a1 a2 M z)

def fX1_ofLine (a0 : Option Nat) (a1 : Int32) (a2 : Int32) (M : Mp) (z : Nat) : Rs Int32 := (gi M a0 [1] 10).bind fun v1 =>
cb (fX1_within a1 (0 : Int32) (v1 - (1 : Int32)) M z) z fun v2 M3 z4 =>
if v2 = 0 then
  (some ((-1 : Int32), M3, 0, 0))
else
  (if a2 = 0 then
  ((gr M3 a0 [1] 11).bind fun v5 =>
(ai M3 0 v5 a1).bind fun v6 =>
some (v6, M3, 0, 0))
else if a2 = 1 then
  ((gr M3 a0 [1] 12).bind fun v7 =>
(ai M3 0 v7 a1).bind fun v8 =>
some (v8, M3, 0, 0))
else if a2 = 2 then
  ((gr M3 a0 [1] 13).bind fun v9 =>
(ai M3 0 v9 a1).bind fun v10 =>
some (v10, M3, 0, 0))
else if a2 = 3 then
  ((gr M3 a0 [1] 14).bind fun v11 =>
(ai M3 0 v11 a1).bind fun v12 =>
some (v12, M3, 0, 0))
else if a2 = 4 then
  ((gr M3 a0 [1] 15).bind fun v13 =>
(ai M3 0 v13 a1).bind fun v14 =>
some (v14, M3, 0, 0))
else 
  (some ((-2 : Int32), M3, 0, 0)))
theorem gX1_ofLine {G : Cx} {F : Option Value × Mp × Nat} (hF : FX G cX1_ofLine 3 RX1 (Option.some Jvm.ClassFile.FieldType.int) "ofLine" 1 22) (a0 : Option Nat) (a1 : Int32) (a2 : Int32) (M : Mp) (z : Nat) : SK G F 3 eI 0 [some (va_rf a0), some (.int a1), some (.int a2)] [] M z (fX1_ofLine a0 a1 a2 M z) := by
  unfold fX1_ofLine
  refine s_iload_n (pc := 0) hF dX1_ofLine_0 rfl rfl ?_
  refine s_iconst (pc := 1) hF dX1_ofLine_1 (0 : Int32) (by decide) ?_
  refine s_aload_n (pc := 2) hF dX1_ofLine_2 rfl rfl ?_
  refine s_geti (pc := 3) hF (fl_X1_114 hF) dX1_ofLine_3 (fun v1 => ?_)
  refine s_iconst (pc := 6) hF dX1_ofLine_6 (1 : Int32) (by decide) ?_
  refine s_isub (pc := 7) hF dX1_ofLine_7 ?_
  refine s_callS (pc := 8) (As := [.int a1, .int (0 : Int32), .int (v1 - (1 : Int32))]) (st := []) (stf := fun r9 => .int r9 :: []) hF (mX1_within a1 (0 : Int32) (v1 - (1 : Int32))) cw_X1_within q1147 q1148 rfl ⟨Nat.le_of_ble_eq_true rfl, Nat.le_of_ble_eq_true rfl⟩ ⟨trivial, Nat.le_of_ble_eq_true rfl⟩ dX1_ofLine_8 rfl (fun _ => rfl) (fun v2 M3 z4 => ?_)
  refine s_if_ne (pc := 11) hF 16 dX1_ofLine_11 rfl ?_ ?_
  · refine s_iload_n (pc := 16) hF dX1_ofLine_16 rfl rfl ?_
    refine s_case (v := 0) (pc := 17) hF 52 dX1_ofLine_17 (by decide) rfl rfl ?_ (fun h9_0 => ?_)
    · refine s_aload_n (pc := 52) hF dX1_ofLine_52 rfl rfl ?_
      refine s_getr (pc := 53) hF (fl_X1_37 hF) dX1_ofLine_53 (fun v5 => ?_)
      refine s_iload_n (pc := 56) hF dX1_ofLine_56 rfl rfl ?_
      refine s_iald (pc := 57) hF dX1_ofLine_57 (fun v6 => ?_)
      exact s_iret (pc := 58) hF dX1_ofLine_58
    refine s_case (v := 1) (pc := 17) hF 59 dX1_ofLine_17 (by decide) rfl rfl ?_ (fun h9_1 => ?_)
    · refine s_aload_n (pc := 59) hF dX1_ofLine_59 rfl rfl ?_
      refine s_getr (pc := 60) hF (fl_X1_40 hF) dX1_ofLine_60 (fun v7 => ?_)
      refine s_iload_n (pc := 63) hF dX1_ofLine_63 rfl rfl ?_
      refine s_iald (pc := 64) hF dX1_ofLine_64 (fun v8 => ?_)
      exact s_iret (pc := 65) hF dX1_ofLine_65
    refine s_case (v := 2) (pc := 17) hF 66 dX1_ofLine_17 (by decide) rfl rfl ?_ (fun h9_2 => ?_)
    · refine s_aload_n (pc := 66) hF dX1_ofLine_66 rfl rfl ?_
      refine s_getr (pc := 67) hF (fl_X1_43 hF) dX1_ofLine_67 (fun v9 => ?_)
      refine s_iload_n (pc := 70) hF dX1_ofLine_70 rfl rfl ?_
      refine s_iald (pc := 71) hF dX1_ofLine_71 (fun v10 => ?_)
      exact s_iret (pc := 72) hF dX1_ofLine_72
    refine s_case (v := 3) (pc := 17) hF 73 dX1_ofLine_17 (by decide) rfl rfl ?_ (fun h9_3 => ?_)
    · refine s_aload_n (pc := 73) hF dX1_ofLine_73 rfl rfl ?_
      refine s_getr (pc := 74) hF (fl_X1_46 hF) dX1_ofLine_74 (fun v11 => ?_)
      refine s_iload_n (pc := 77) hF dX1_ofLine_77 rfl rfl ?_
      refine s_iald (pc := 78) hF dX1_ofLine_78 (fun v12 => ?_)
      exact s_iret (pc := 79) hF dX1_ofLine_79
    refine s_case (v := 4) (pc := 17) hF 80 dX1_ofLine_17 (by decide) rfl rfl ?_ (fun h9_4 => ?_)
    · refine s_aload_n (pc := 80) hF dX1_ofLine_80 rfl rfl ?_
      refine s_getr (pc := 81) hF (fl_X1_49 hF) dX1_ofLine_81 (fun v13 => ?_)
      refine s_iload_n (pc := 84) hF dX1_ofLine_84 rfl rfl ?_
      refine s_iald (pc := 85) hF dX1_ofLine_85 (fun v14 => ?_)
      exact s_iret (pc := 86) hF dX1_ofLine_86
    refine s_dflt (pc := 17) hF 87 dX1_ofLine_17 (by
    have := lv_neT (a := 0) h9_0 rfl
    have := lv_neT (a := 1) h9_1 rfl
    have := lv_neT (a := 2) h9_2 rfl
    have := lv_neT (a := 3) h9_3 rfl
    have := lv_neT (a := 4) h9_4 rfl
    omega) rfl ?_
    refine s_bipush (pc := 87) hF dX1_ofLine_87 (-2 : Int32) (by decide) ?_
    exact s_iret (pc := 89) hF dX1_ofLine_89
  · refine s_iconst (pc := 14) hF dX1_ofLine_14 (-1 : Int32) (by decide) ?_
    exact s_iret (pc := 15) hF dX1_ofLine_15
theorem mX1_ofLine (a0 : Option Nat) (a1 : Int32) (a2 : Int32) : MT yX1_ofLine cX1_ofLine 3 (Option.some Jvm.ClassFile.FieldType.int) 1 22 eI [va_rf a0, .int a1, .int a2] (fX1_ofLine a0 a1 a2) :=
  MT.of (L0 := [some (va_rf a0), some (.int a1), some (.int a2)]) (by decide) ⟨ct _, ⟨rfl, ⟨rfl, trivial⟩⟩⟩ (Nat.le_of_ble_eq_true rfl) rfl (fun _ _ hF M z => gX1_ofLine hF a0 a1 a2 M z)

def fX1_at_J71 (r35 : Option Nat → Int32 → Int32 → Int32 → Int32 → Mp → Nat → Rs Int32) (l0 : Option Nat) (l1 : Int32) (l2 : Int32) (l3 : Int32) (l4 : Int32) (M : Mp) (z : Nat) : Rs Int32 := r35 l0 l1 l2 l3 (l4 + 1) M z

theorem gX1_at_J71 {G : Cx} {F : Option Value × Mp × Nat}  {r35 : Option Nat → Int32 → Int32 → Int32 → Int32 → Mp → Nat → Rs Int32}(hF : FX G cX1_at 5 RX1 (Option.some Jvm.ClassFile.FieldType.int) "at" 1 25) (hr35 : ∀ l0 l1 l2 l3 l4 M z, SK G F 5 eI 35 [some (va_rf l0), some (.int l1), some (.int l2), some (.int l3), some (.int l4)] [] M z (r35 l0 l1 l2 l3 l4 M z)) (l0 : Option Nat) (l1 : Int32) (l2 : Int32) (l3 : Int32) (l4 : Int32) (M : Mp) (z : Nat) : SK G F 5 eI 71 [some (va_rf l0), some (.int l1), some (.int l2), some (.int l3), some (.int l4)] [] M z (fX1_at_J71 r35 l0 l1 l2 l3 l4 M z) := by
  unfold fX1_at_J71
  refine s_iinc (v := l4 + 1) (L9 := [some (va_rf l0), some (.int l1), some (.int l2), some (.int l3), some (.int (l4 + 1))]) (pc := 71) hF dX1_at_71 rfl rfl (Nat.le_of_ble_eq_true rfl) rfl ?_
  refine s_goto (pc := 74) hF 35 dX1_at_74 rfl ?_
  exact SK.sb (hr35 l0 l1 l2 l3 (l4 + 1) M z) ⟨rfl, ⟨rfl, ⟨rfl, ⟨rfl, ⟨rfl, trivial⟩⟩⟩⟩⟩

def fX1_at_L35 : Nat → Option Nat → Int32 → Int32 → Int32 → Int32 → Mp → Nat → Rs Int32
  | 0, _, _, _, _, _, _, _ => none
  | fu + 1, l0, l1, l2, l3, l4, M, z => (gi M l0 [1] 0).bind fun v1 =>
if l4 < v1 then
  ((gr M l0 [1] 1).bind fun v2 =>
(ai M 0 v2 l4).bind fun v3 =>
if v3 = l1 then
  (if ckc M l0 [1] = true then
  (cb (fX1_isMeeting l0 l4 l2 l2 l3 l3 M z) z fun v4 M5 z6 =>
if v4 = 0 then
  (fX1_at_J71 (fX1_at_L35 fu) l0 l1 l2 l3 l4 M5 z6)
else
  (some (l4, M5, 0, 0)))
else none)
else
  (fX1_at_J71 (fX1_at_L35 fu) l0 l1 l2 l3 l4 M z))
else
  (some ((-9 : Int32), M, 0, 0))

theorem gX1_at_L35 {G : Cx} {F : Option Value × Mp × Nat} (hF : FX G cX1_at 5 RX1 (Option.some Jvm.ClassFile.FieldType.int) "at" 1 25) : ∀ (fu : Nat) (l0 : Option Nat) (l1 : Int32) (l2 : Int32) (l3 : Int32) (l4 : Int32) (M : Mp) (z : Nat), SK G F 5 eI 35 [some (va_rf l0), some (.int l1), some (.int l2), some (.int l3), some (.int l4)] [] M z (fX1_at_L35 fu l0 l1 l2 l3 l4 M z) := by
  intro fu
  induction fu with
  | zero => intros; exact SK.fail
  | succ fu ih =>
    intro l0 l1 l2 l3 l4 M z
    rw [fX1_at_L35]
    refine s_iload (pc := 35) hF dX1_at_35 rfl ?_
    refine s_aload_n (pc := 37) hF dX1_at_37 rfl rfl ?_
    refine s_geti (pc := 38) hF (fl_X1_98 hF) dX1_at_38 (fun v1 => ?_)
    refine s_icmp_ge (pc := 41) hF 77 dX1_at_41 rfl ?_ ?_
    · refine s_bipush (pc := 77) hF dX1_at_77 (-9 : Int32) (by decide) ?_
      exact s_iret (pc := 79) hF dX1_at_79
    · refine s_aload_n (pc := 44) hF dX1_at_44 rfl rfl ?_
      refine s_getr (pc := 45) hF (fl_X1_7 hF) dX1_at_45 (fun v2 => ?_)
      refine s_iload (pc := 48) hF dX1_at_48 rfl ?_
      refine s_iald (pc := 50) hF dX1_at_50 (fun v3 => ?_)
      refine s_iload_n (pc := 51) hF dX1_at_51 rfl rfl ?_
      refine s_icmp_ne (pc := 52) hF 71 dX1_at_52 rfl ?_ ?_
      · exact SK.sb (gX1_at_J71 hF ih l0 l1 l2 l3 l4 M z) ⟨rfl, ⟨rfl, ⟨rfl, ⟨rfl, ⟨rfl, trivial⟩⟩⟩⟩⟩
      · refine s_aload_n (pc := 55) hF dX1_at_55 rfl rfl ?_
        refine s_iload (pc := 56) hF dX1_at_56 rfl ?_
        refine s_iload_n (pc := 58) hF dX1_at_58 rfl rfl ?_
        refine s_iload_n (pc := 59) hF dX1_at_59 rfl rfl ?_
        refine s_iload_n (pc := 60) hF dX1_at_60 rfl rfl ?_
        refine s_iload_n (pc := 61) hF dX1_at_61 rfl rfl ?_
        refine s_callV (pc := 62) (As := [.int l4, .int l2, .int l2, .int l3, .int l3]) (st := []) (stf := fun r9 => .int r9 :: []) hF (mX1_isMeeting l0 l4 l2 l2 l3 l3) cw_X1_isMeeting q1150 q1152 (List.forall_mem_cons.mpr ⟨⟨(RX1, TX1, 34), rfl, qs27⟩, fun _ h9 => absurd h9 List.not_mem_nil⟩) rfl ⟨Nat.le_of_ble_eq_true rfl, Nat.le_of_ble_eq_true rfl⟩ ⟨trivial, Nat.le_of_ble_eq_true rfl⟩ dX1_at_62 rfl (fun _ => rfl) (fun v4 M5 z6 => ?_)
        refine s_if_eq (pc := 65) hF 71 dX1_at_65 rfl ?_ ?_
        · exact SK.sb (gX1_at_J71 hF ih l0 l1 l2 l3 l4 M5 z6) ⟨rfl, ⟨rfl, ⟨rfl, ⟨rfl, ⟨rfl, trivial⟩⟩⟩⟩⟩
        · refine s_iload (pc := 68) hF dX1_at_68 rfl ?_
          exact s_iret (pc := 70) hF dX1_at_70
def fX1_at (a0 : Option Nat) (a1 : Int32) (a2 : Int32) (a3 : Int32) (M : Mp) (z : Nat) : Rs Int32 := cb (fX1_within a1 (0 : Int32) (3 : Int32) M z) z fun v1 M2 z3 =>
if v1 = 0 then
  (some ((-2 : Int32), M2, 0, 0))
else
  (cb (fX1_within a2 (0 : Int32) (7 : Int32) M2 z3) z3 fun v4 M5 z6 =>
if v4 = 0 then
  (some ((-2 : Int32), M5, 0, 0))
else
  (cb (fX1_within a3 (0 : Int32) (29 : Int32) M5 z6) z6 fun v7 M8 z9 =>
if v7 = 0 then
  (some ((-2 : Int32), M8, 0, 0))
else
  (fX1_at_L35 FU a0 a1 a2 a3 (0 : Int32) M8 z9)))
theorem gX1_at {G : Cx} {F : Option Value × Mp × Nat} (hF : FX G cX1_at 5 RX1 (Option.some Jvm.ClassFile.FieldType.int) "at" 1 25) (a0 : Option Nat) (a1 : Int32) (a2 : Int32) (a3 : Int32) (M : Mp) (z : Nat) : SK G F 5 eI 0 [some (va_rf a0), some (.int a1), some (.int a2), some (.int a3), none] [] M z (fX1_at a0 a1 a2 a3 M z) := by
  unfold fX1_at
  refine s_iload_n (pc := 0) hF dX1_at_0 rfl rfl ?_
  refine s_iconst (pc := 1) hF dX1_at_1 (0 : Int32) (by decide) ?_
  refine s_iconst (pc := 2) hF dX1_at_2 (3 : Int32) (by decide) ?_
  refine s_callS (pc := 3) (As := [.int a1, .int (0 : Int32), .int (3 : Int32)]) (st := []) (stf := fun r9 => .int r9 :: []) hF (mX1_within a1 (0 : Int32) (3 : Int32)) cw_X1_within q1147 q1148 rfl ⟨Nat.le_of_ble_eq_true rfl, Nat.le_of_ble_eq_true rfl⟩ ⟨trivial, Nat.le_of_ble_eq_true rfl⟩ dX1_at_3 rfl (fun _ => rfl) (fun v1 M2 z3 => ?_)
  refine s_if_eq (pc := 6) hF 29 dX1_at_6 rfl ?_ ?_
  · refine s_bipush (pc := 29) hF dX1_at_29 (-2 : Int32) (by decide) ?_
    exact s_iret (pc := 31) hF dX1_at_31
  · refine s_iload_n (pc := 9) hF dX1_at_9 rfl rfl ?_
    refine s_iconst (pc := 10) hF dX1_at_10 (0 : Int32) (by decide) ?_
    refine s_bipush (pc := 11) hF dX1_at_11 (7 : Int32) (by decide) ?_
    refine s_callS (pc := 13) (As := [.int a2, .int (0 : Int32), .int (7 : Int32)]) (st := []) (stf := fun r9 => .int r9 :: []) hF (mX1_within a2 (0 : Int32) (7 : Int32)) cw_X1_within q1147 q1148 rfl ⟨Nat.le_of_ble_eq_true rfl, Nat.le_of_ble_eq_true rfl⟩ ⟨trivial, Nat.le_of_ble_eq_true rfl⟩ dX1_at_13 rfl (fun _ => rfl) (fun v4 M5 z6 => ?_)
    refine s_if_eq (pc := 16) hF 29 dX1_at_16 rfl ?_ ?_
    · refine s_bipush (pc := 29) hF dX1_at_29 (-2 : Int32) (by decide) ?_
      exact s_iret (pc := 31) hF dX1_at_31
    · refine s_iload_n (pc := 19) hF dX1_at_19 rfl rfl ?_
      refine s_iconst (pc := 20) hF dX1_at_20 (0 : Int32) (by decide) ?_
      refine s_bipush (pc := 21) hF dX1_at_21 (29 : Int32) (by decide) ?_
      refine s_callS (pc := 23) (As := [.int a3, .int (0 : Int32), .int (29 : Int32)]) (st := []) (stf := fun r9 => .int r9 :: []) hF (mX1_within a3 (0 : Int32) (29 : Int32)) cw_X1_within q1147 q1148 rfl ⟨Nat.le_of_ble_eq_true rfl, Nat.le_of_ble_eq_true rfl⟩ ⟨trivial, Nat.le_of_ble_eq_true rfl⟩ dX1_at_23 rfl (fun _ => rfl) (fun v7 M8 z9 => ?_)
      refine s_if_ne (pc := 26) hF 32 dX1_at_26 rfl ?_ ?_
      · refine s_iconst (pc := 32) hF dX1_at_32 (0 : Int32) (by decide) ?_
        refine s_istore (L9 := [some (va_rf a0), some (.int a1), some (.int a2), some (.int a3), some (.int (0 : Int32))]) (pc := 33) hF dX1_at_33 (Nat.le_of_ble_eq_true rfl) rfl ?_
        exact SK.sb (gX1_at_L35 hF FU a0 a1 a2 a3 (0 : Int32) M8 z9) ⟨rfl, ⟨rfl, ⟨rfl, ⟨rfl, ⟨rfl, trivial⟩⟩⟩⟩⟩
      · refine s_bipush (pc := 29) hF dX1_at_29 (-2 : Int32) (by decide) ?_
        exact s_iret (pc := 31) hF dX1_at_31
theorem mX1_at (a0 : Option Nat) (a1 : Int32) (a2 : Int32) (a3 : Int32) : MT yX1_at cX1_at 5 (Option.some Jvm.ClassFile.FieldType.int) 1 25 eI [va_rf a0, .int a1, .int a2, .int a3] (fX1_at a0 a1 a2 a3) :=
  MT.of (L0 := [some (va_rf a0), some (.int a1), some (.int a2), some (.int a3), none]) (by decide) ⟨ct _, ⟨rfl, ⟨rfl, ⟨rfl, trivial⟩⟩⟩⟩ (Nat.le_of_ble_eq_true rfl) rfl (fun _ _ hF M z => gX1_at hF a0 a1 a2 a3 M z)

def fX1_isHead (a0 : Option Nat) (a1 : Int32) (M : Mp) (z : Nat) : Rs Int32 := if ckc M a0 [1] = true then
  (cb (fX1_isBlock a0 a1 M z) z fun v1 M2 z3 =>
if v1 = 0 then
  (some ((0 : Int32), M2, 0, 0))
else
  ((gr M2 a0 [1] 2).bind fun v4 =>
(ai M2 0 v4 a1).bind fun v5 =>
if v5 = 0 then
  (some ((1 : Int32), M2, 0, 0))
else
  (some ((0 : Int32), M2, 0, 0))))
else none
theorem gX1_isHead {G : Cx} {F : Option Value × Mp × Nat} (hF : FX G cX1_isHead 2 RX1 (Option.some Jvm.ClassFile.FieldType.boolean) "isHead" 2 43) (a0 : Option Nat) (a1 : Int32) (M : Mp) (z : Nat) : SK G F 2 eI 0 [some (va_rf a0), some (.int a1)] [] M z (fX1_isHead a0 a1 M z) := by
  unfold fX1_isHead
  refine s_aload_n (pc := 0) hF dX1_isHead_0 rfl rfl ?_
  refine s_iload_n (pc := 1) hF dX1_isHead_1 rfl rfl ?_
  refine s_callV (pc := 2) (As := [.int a1]) (st := []) (stf := fun r9 => .int r9 :: []) hF (mX1_isBlock a0 a1) cw_X1_isBlock q1158 q1160 (List.forall_mem_cons.mpr ⟨⟨(RX1, TX1, 34), rfl, qs28⟩, fun _ h9 => absurd h9 List.not_mem_nil⟩) rfl ⟨Nat.le_of_ble_eq_true rfl, Nat.le_of_ble_eq_true rfl⟩ ⟨trivial, Nat.le_of_ble_eq_true rfl⟩ dX1_isHead_2 rfl (fun _ => rfl) (fun v1 M2 z3 => ?_)
  refine s_if_eq (pc := 5) hF 21 dX1_isHead_5 rfl ?_ ?_
  · refine s_iconst (pc := 21) hF dX1_isHead_21 (0 : Int32) (by decide) ?_
    exact s_zretL (pc := 22) hF dX1_isHead_22 (by decide)
  · refine s_aload_n (pc := 8) hF dX1_isHead_8 rfl rfl ?_
    refine s_getr (pc := 9) hF (fl_X1_13 hF) dX1_isHead_9 (fun v4 => ?_)
    refine s_iload_n (pc := 12) hF dX1_isHead_12 rfl rfl ?_
    refine s_iald (pc := 13) hF dX1_isHead_13 (fun v5 => ?_)
    refine s_if_ne (pc := 14) hF 21 dX1_isHead_14 rfl ?_ ?_
    · refine s_iconst (pc := 21) hF dX1_isHead_21 (0 : Int32) (by decide) ?_
      exact s_zretL (pc := 22) hF dX1_isHead_22 (by decide)
    · refine s_iconst (pc := 17) hF dX1_isHead_17 (1 : Int32) (by decide) ?_
      refine s_goto (pc := 18) hF 22 dX1_isHead_18 rfl ?_
      exact s_zretL (pc := 22) hF dX1_isHead_22 (by decide)
theorem mX1_isHead (a0 : Option Nat) (a1 : Int32) : MT yX1_isHead cX1_isHead 2 (Option.some Jvm.ClassFile.FieldType.boolean) 2 43 eI [va_rf a0, .int a1] (fX1_isHead a0 a1) :=
  MT.of (L0 := [some (va_rf a0), some (.int a1)]) (by decide) ⟨ct _, ⟨rfl, trivial⟩⟩ (Nat.le_of_ble_eq_true rfl) rfl (fun _ _ hF M z => gX1_isHead hF a0 a1 M z)

def fX1_isUpright_J69 (r3 : Option Nat → Int32 → Int32 → Int32 → Int32 → Int32 → Mp → Nat → Rs Int32) (l0 : Option Nat) (l1 : Int32) (l2 : Int32) (l3 : Int32) (l4 : Int32) (l5 : Int32) (M : Mp) (z : Nat) : Rs Int32 := r3 l0 l1 l2 l3 l4 (l5 + 1) M z

theorem gX1_isUpright_J69 {G : Cx} {F : Option Value × Mp × Nat}  {r3 : Option Nat → Int32 → Int32 → Int32 → Int32 → Int32 → Mp → Nat → Rs Int32}(hF : FX G cX1_isUpright 6 RX1 (Option.some Jvm.ClassFile.FieldType.boolean) "isUpright" 0 0) (hr3 : ∀ l0 l1 l2 l3 l4 l5 M z, SK G F 6 eI 3 [some (va_rf l0), some (.int l1), some (.int l2), some (.int l3), some (.int l4), some (.int l5)] [] M z (r3 l0 l1 l2 l3 l4 l5 M z)) (l0 : Option Nat) (l1 : Int32) (l2 : Int32) (l3 : Int32) (l4 : Int32) (l5 : Int32) (M : Mp) (z : Nat) : SK G F 6 eI 69 [some (va_rf l0), some (.int l1), some (.int l2), some (.int l3), some (.int l4), some (.int l5)] [] M z (fX1_isUpright_J69 r3 l0 l1 l2 l3 l4 l5 M z) := by
  unfold fX1_isUpright_J69
  refine s_iinc (v := l5 + 1) (L9 := [some (va_rf l0), some (.int l1), some (.int l2), some (.int l3), some (.int l4), some (.int (l5 + 1))]) (pc := 69) hF dX1_isUpright_69 rfl rfl (Nat.le_of_ble_eq_true rfl) rfl ?_
  refine s_goto (pc := 72) hF 3 dX1_isUpright_72 rfl ?_
  exact SK.sb (hr3 l0 l1 l2 l3 l4 (l5 + 1) M z) ⟨rfl, ⟨rfl, ⟨rfl, ⟨rfl, ⟨rfl, ⟨rfl, trivial⟩⟩⟩⟩⟩⟩

def fX1_isUpright_L3 : Nat → Option Nat → Int32 → Int32 → Int32 → Int32 → Int32 → Mp → Nat → Rs Int32
  | 0, _, _, _, _, _, _, _, _ => none
  | fu + 1, l0, l1, l2, l3, l4, l5, M, z => (gi M l0 [1] 10).bind fun v1 =>
if l5 < v1 then
  ((gr M l0 [1] 11).bind fun v2 =>
(ai M 0 v2 l5).bind fun v3 =>
if v3 = l1 then
  ((gr M l0 [1] 12).bind fun v4 =>
(ai M 0 v4 l5).bind fun v5 =>
if v5 = 0 then
  ((gr M l0 [1] 13).bind fun v6 =>
(ai M 0 v6 l5).bind fun v7 =>
if v7 = l2 then
  ((gr M l0 [1] 14).bind fun v8 =>
(ai M 0 v8 l5).bind fun v9 =>
if l4 < v9 then
  (fX1_isUpright_J69 (fX1_isUpright_L3 fu) l0 l1 l2 l3 l4 l5 M z)
else
  ((gr M l0 [1] 15).bind fun v10 =>
(ai M 0 v10 l5).bind fun v11 =>
if v11 < l3 then
  (fX1_isUpright_J69 (fX1_isUpright_L3 fu) l0 l1 l2 l3 l4 l5 M z)
else
  (some ((1 : Int32), M, 0, 0))))
else
  (fX1_isUpright_J69 (fX1_isUpright_L3 fu) l0 l1 l2 l3 l4 l5 M z))
else
  (fX1_isUpright_J69 (fX1_isUpright_L3 fu) l0 l1 l2 l3 l4 l5 M z))
else
  (fX1_isUpright_J69 (fX1_isUpright_L3 fu) l0 l1 l2 l3 l4 l5 M z))
else
  (some ((0 : Int32), M, 0, 0))

theorem gX1_isUpright_L3 {G : Cx} {F : Option Value × Mp × Nat} (hF : FX G cX1_isUpright 6 RX1 (Option.some Jvm.ClassFile.FieldType.boolean) "isUpright" 0 0) : ∀ (fu : Nat) (l0 : Option Nat) (l1 : Int32) (l2 : Int32) (l3 : Int32) (l4 : Int32) (l5 : Int32) (M : Mp) (z : Nat), SK G F 6 eI 3 [some (va_rf l0), some (.int l1), some (.int l2), some (.int l3), some (.int l4), some (.int l5)] [] M z (fX1_isUpright_L3 fu l0 l1 l2 l3 l4 l5 M z) := by
  intro fu
  induction fu with
  | zero => intros; exact SK.fail
  | succ fu ih =>
    intro l0 l1 l2 l3 l4 l5 M z
    rw [fX1_isUpright_L3]
    refine s_iload (pc := 3) hF dX1_isUpright_3 rfl ?_
    refine s_aload_n (pc := 5) hF dX1_isUpright_5 rfl rfl ?_
    refine s_geti (pc := 6) hF (fl_X1_114 hF) dX1_isUpright_6 (fun v1 => ?_)
    refine s_icmp_ge (pc := 9) hF 75 dX1_isUpright_9 rfl ?_ ?_
    · refine s_iconst (pc := 75) hF dX1_isUpright_75 (0 : Int32) (by decide) ?_
      exact s_zretL (pc := 76) hF dX1_isUpright_76 (by decide)
    · refine s_aload_n (pc := 12) hF dX1_isUpright_12 rfl rfl ?_
      refine s_getr (pc := 13) hF (fl_X1_37 hF) dX1_isUpright_13 (fun v2 => ?_)
      refine s_iload (pc := 16) hF dX1_isUpright_16 rfl ?_
      refine s_iald (pc := 18) hF dX1_isUpright_18 (fun v3 => ?_)
      refine s_iload_n (pc := 19) hF dX1_isUpright_19 rfl rfl ?_
      refine s_icmp_ne (pc := 20) hF 69 dX1_isUpright_20 rfl ?_ ?_
      · exact SK.sb (gX1_isUpright_J69 hF ih l0 l1 l2 l3 l4 l5 M z) ⟨rfl, ⟨rfl, ⟨rfl, ⟨rfl, ⟨rfl, ⟨rfl, trivial⟩⟩⟩⟩⟩⟩
      · refine s_aload_n (pc := 23) hF dX1_isUpright_23 rfl rfl ?_
        refine s_getr (pc := 24) hF (fl_X1_40 hF) dX1_isUpright_24 (fun v4 => ?_)
        refine s_iload (pc := 27) hF dX1_isUpright_27 rfl ?_
        refine s_iald (pc := 29) hF dX1_isUpright_29 (fun v5 => ?_)
        refine s_if_ne (pc := 30) hF 69 dX1_isUpright_30 rfl ?_ ?_
        · exact SK.sb (gX1_isUpright_J69 hF ih l0 l1 l2 l3 l4 l5 M z) ⟨rfl, ⟨rfl, ⟨rfl, ⟨rfl, ⟨rfl, ⟨rfl, trivial⟩⟩⟩⟩⟩⟩
        · refine s_aload_n (pc := 33) hF dX1_isUpright_33 rfl rfl ?_
          refine s_getr (pc := 34) hF (fl_X1_43 hF) dX1_isUpright_34 (fun v6 => ?_)
          refine s_iload (pc := 37) hF dX1_isUpright_37 rfl ?_
          refine s_iald (pc := 39) hF dX1_isUpright_39 (fun v7 => ?_)
          refine s_iload_n (pc := 40) hF dX1_isUpright_40 rfl rfl ?_
          refine s_icmp_ne (pc := 41) hF 69 dX1_isUpright_41 rfl ?_ ?_
          · exact SK.sb (gX1_isUpright_J69 hF ih l0 l1 l2 l3 l4 l5 M z) ⟨rfl, ⟨rfl, ⟨rfl, ⟨rfl, ⟨rfl, ⟨rfl, trivial⟩⟩⟩⟩⟩⟩
          · refine s_aload_n (pc := 44) hF dX1_isUpright_44 rfl rfl ?_
            refine s_getr (pc := 45) hF (fl_X1_46 hF) dX1_isUpright_45 (fun v8 => ?_)
            refine s_iload (pc := 48) hF dX1_isUpright_48 rfl ?_
            refine s_iald (pc := 50) hF dX1_isUpright_50 (fun v9 => ?_)
            refine s_iload (pc := 51) hF dX1_isUpright_51 rfl ?_
            refine s_icmp_gt (pc := 53) hF 69 dX1_isUpright_53 rfl ?_ ?_
            · exact SK.sb (gX1_isUpright_J69 hF ih l0 l1 l2 l3 l4 l5 M z) ⟨rfl, ⟨rfl, ⟨rfl, ⟨rfl, ⟨rfl, ⟨rfl, trivial⟩⟩⟩⟩⟩⟩
            · refine s_aload_n (pc := 56) hF dX1_isUpright_56 rfl rfl ?_
              refine s_getr (pc := 57) hF (fl_X1_49 hF) dX1_isUpright_57 (fun v10 => ?_)
              refine s_iload (pc := 60) hF dX1_isUpright_60 rfl ?_
              refine s_iald (pc := 62) hF dX1_isUpright_62 (fun v11 => ?_)
              refine s_iload_n (pc := 63) hF dX1_isUpright_63 rfl rfl ?_
              refine s_icmp_lt (pc := 64) hF 69 dX1_isUpright_64 rfl ?_ ?_
              · exact SK.sb (gX1_isUpright_J69 hF ih l0 l1 l2 l3 l4 l5 M z) ⟨rfl, ⟨rfl, ⟨rfl, ⟨rfl, ⟨rfl, ⟨rfl, trivial⟩⟩⟩⟩⟩⟩
              · refine s_iconst (pc := 67) hF dX1_isUpright_67 (1 : Int32) (by decide) ?_
                exact s_zretL (pc := 68) hF dX1_isUpright_68 (by decide)
def fX1_isUpright (a0 : Option Nat) (a1 : Int32) (a2 : Int32) (a3 : Int32) (a4 : Int32) (M : Mp) (z : Nat) : Rs Int32 := fX1_isUpright_L3 FU a0 a1 a2 a3 a4 (0 : Int32) M z
theorem gX1_isUpright {G : Cx} {F : Option Value × Mp × Nat} (hF : FX G cX1_isUpright 6 RX1 (Option.some Jvm.ClassFile.FieldType.boolean) "isUpright" 0 0) (a0 : Option Nat) (a1 : Int32) (a2 : Int32) (a3 : Int32) (a4 : Int32) (M : Mp) (z : Nat) : SK G F 6 eI 0 [some (va_rf a0), some (.int a1), some (.int a2), some (.int a3), some (.int a4), none] [] M z (fX1_isUpright a0 a1 a2 a3 a4 M z) := by
  unfold fX1_isUpright
  refine s_iconst (pc := 0) hF dX1_isUpright_0 (0 : Int32) (by decide) ?_
  refine s_istore (L9 := [some (va_rf a0), some (.int a1), some (.int a2), some (.int a3), some (.int a4), some (.int (0 : Int32))]) (pc := 1) hF dX1_isUpright_1 (Nat.le_of_ble_eq_true rfl) rfl ?_
  exact SK.sb (gX1_isUpright_L3 hF FU a0 a1 a2 a3 a4 (0 : Int32) M z) ⟨rfl, ⟨rfl, ⟨rfl, ⟨rfl, ⟨rfl, ⟨rfl, trivial⟩⟩⟩⟩⟩⟩
theorem mX1_isUpright (a0 : Option Nat) (a1 : Int32) (a2 : Int32) (a3 : Int32) (a4 : Int32) : MT yX1_isUpright cX1_isUpright 6 (Option.some Jvm.ClassFile.FieldType.boolean) 0 0 eI [va_rf a0, .int a1, .int a2, .int a3, .int a4] (fX1_isUpright a0 a1 a2 a3 a4) :=
  MT.of (L0 := [some (va_rf a0), some (.int a1), some (.int a2), some (.int a3), some (.int a4), none]) (by decide) ⟨ct _, ⟨rfl, ⟨rfl, ⟨rfl, ⟨rfl, trivial⟩⟩⟩⟩⟩ (Nat.le_of_ble_eq_true rfl) rfl (fun _ _ hF M z => gX1_isUpright hF a0 a1 a2 a3 a4 M z)

theorem cw_X1_isUpright : CWm yX1_isUpright cX1_isUpright 6 (Option.some Jvm.ClassFile.FieldType.boolean) 4 := ⟨q1213, q63, by decide +kernel, by decide +kernel, by decide +kernel⟩
def fX1_reachesAcross_L41 : Nat → Option Nat → Int32 → Int32 → Int32 → Mp → Nat → Rs Int32
  | 0, _, _, _, _, _, _ => none
  | fu + 1, l0, l1, l2, l3, M, z => if l2 < l3 then
  (some ((1 : Int32), M, 0, 0))
else
  ((gr M l0 [1] 1).bind fun v1 =>
(ai M 0 v1 l1).bind fun v2 =>
(gr M l0 [1] 6).bind fun v3 =>
(ai M 0 v3 l1).bind fun v4 =>
(gr M l0 [1] 6).bind fun v5 =>
(ai M 0 v5 l1).bind fun v6 =>
if ckc M l0 [1] = true then
  (cb (fX1_isUpright l0 v2 l3 (v4 + (1 : Int32)) (v6 + (1 : Int32)) M z) z fun v7 M8 z9 =>
if v7 = 0 then
  (fX1_reachesAcross_L41 fu l0 l1 l2 (l3 + 1) M8 z9)
else
  (some ((0 : Int32), M8, 0, 0)))
else none)

theorem gX1_reachesAcross_L41 {G : Cx} {F : Option Value × Mp × Nat} (hF : FX G cX1_reachesAcross 4 RX1 (Option.some Jvm.ClassFile.FieldType.boolean) "reachesAcross" 1 25) : ∀ (fu : Nat) (l0 : Option Nat) (l1 : Int32) (l2 : Int32) (l3 : Int32) (M : Mp) (z : Nat), SK G F 4 eI 41 [some (va_rf l0), some (.int l1), some (.int l2), some (.int l3)] [] M z (fX1_reachesAcross_L41 fu l0 l1 l2 l3 M z) := by
  intro fu
  induction fu with
  | zero => intros; exact SK.fail
  | succ fu ih =>
    intro l0 l1 l2 l3 M z
    rw [fX1_reachesAcross_L41]
    refine s_iload_n (pc := 41) hF dX1_reachesAcross_41 rfl rfl ?_
    refine s_iload_n (pc := 42) hF dX1_reachesAcross_42 rfl rfl ?_
    refine s_icmp_gt (pc := 43) hF 84 dX1_reachesAcross_43 rfl ?_ ?_
    · refine s_iconst (pc := 84) hF dX1_reachesAcross_84 (1 : Int32) (by decide) ?_
      exact s_zretL (pc := 85) hF dX1_reachesAcross_85 (by decide)
    · refine s_aload_n (pc := 46) hF dX1_reachesAcross_46 rfl rfl ?_
      refine s_aload_n (pc := 47) hF dX1_reachesAcross_47 rfl rfl ?_
      refine s_getr (pc := 48) hF (fl_X1_7 hF) dX1_reachesAcross_48 (fun v1 => ?_)
      refine s_iload_n (pc := 51) hF dX1_reachesAcross_51 rfl rfl ?_
      refine s_iald (pc := 52) hF dX1_reachesAcross_52 (fun v2 => ?_)
      refine s_iload_n (pc := 53) hF dX1_reachesAcross_53 rfl rfl ?_
      refine s_aload_n (pc := 54) hF dX1_reachesAcross_54 rfl rfl ?_
      refine s_getr (pc := 55) hF (fl_X1_25 hF) dX1_reachesAcross_55 (fun v3 => ?_)
      refine s_iload_n (pc := 58) hF dX1_reachesAcross_58 rfl rfl ?_
      refine s_iald (pc := 59) hF dX1_reachesAcross_59 (fun v4 => ?_)
      refine s_iconst (pc := 60) hF dX1_reachesAcross_60 (1 : Int32) (by decide) ?_
      refine s_iadd (pc := 61) hF dX1_reachesAcross_61 ?_
      refine s_aload_n (pc := 62) hF dX1_reachesAcross_62 rfl rfl ?_
      refine s_getr (pc := 63) hF (fl_X1_25 hF) dX1_reachesAcross_63 (fun v5 => ?_)
      refine s_iload_n (pc := 66) hF dX1_reachesAcross_66 rfl rfl ?_
      refine s_iald (pc := 67) hF dX1_reachesAcross_67 (fun v6 => ?_)
      refine s_iconst (pc := 68) hF dX1_reachesAcross_68 (1 : Int32) (by decide) ?_
      refine s_iadd (pc := 69) hF dX1_reachesAcross_69 ?_
      refine s_callV (pc := 70) (As := [.int v2, .int l3, .int (v4 + (1 : Int32)), .int (v6 + (1 : Int32))]) (st := []) (stf := fun r9 => .int r9 :: []) hF (mX1_isUpright l0 v2 l3 (v4 + (1 : Int32)) (v6 + (1 : Int32))) cw_X1_isUpright q1210 q1212 (List.forall_mem_cons.mpr ⟨⟨(RX1, TX1, 34), rfl, qs32⟩, fun _ h9 => absurd h9 List.not_mem_nil⟩) rfl ⟨Nat.le_of_ble_eq_true rfl, Nat.le_of_ble_eq_true rfl⟩ ⟨trivial, Nat.le_of_ble_eq_true rfl⟩ dX1_reachesAcross_70 rfl (fun _ => rfl) (fun v7 M8 z9 => ?_)
      refine s_if_eq (pc := 73) hF 78 dX1_reachesAcross_73 rfl ?_ ?_
      · refine s_iinc (v := l3 + 1) (L9 := [some (va_rf l0), some (.int l1), some (.int l2), some (.int (l3 + 1))]) (pc := 78) hF dX1_reachesAcross_78 rfl rfl (Nat.le_of_ble_eq_true rfl) rfl ?_
        refine s_goto (pc := 81) hF 41 dX1_reachesAcross_81 rfl ?_
        exact SK.sb (ih l0 l1 l2 (l3 + 1) M8 z9) ⟨rfl, ⟨rfl, ⟨rfl, ⟨rfl, trivial⟩⟩⟩⟩
      · refine s_iconst (pc := 76) hF dX1_reachesAcross_76 (0 : Int32) (by decide) ?_
        exact s_zretL (pc := 77) hF dX1_reachesAcross_77 (by decide)
def fX1_reachesAcross (a0 : Option Nat) (a1 : Int32) (a2 : Int32) (M : Mp) (z : Nat) : Rs Int32 := (gr M a0 [1] 6).bind fun v1 =>
(ai M 0 v1 a1).bind fun v2 =>
if v2 = (29 : Int32) then
  (some ((0 : Int32), M, 0, 0))
else
  ((gr M a0 [1] 3).bind fun v3 =>
(ai M 0 v3 a1).bind fun v4 =>
(gr M a0 [1] 4).bind fun v5 =>
(ai M 0 v5 a1).bind fun v6 =>
cb (fX1_within a2 v4 v6 M z) z fun v7 M8 z9 =>
if v7 = 0 then
  (some ((0 : Int32), M8, 0, 0))
else
  ((gr M8 a0 [1] 3).bind fun v10 =>
(ai M8 0 v10 a1).bind fun v11 =>
fX1_reachesAcross_L41 FU a0 a1 a2 (v11 + (1 : Int32)) M8 z9))
theorem gX1_reachesAcross {G : Cx} {F : Option Value × Mp × Nat} (hF : FX G cX1_reachesAcross 4 RX1 (Option.some Jvm.ClassFile.FieldType.boolean) "reachesAcross" 1 25) (a0 : Option Nat) (a1 : Int32) (a2 : Int32) (M : Mp) (z : Nat) : SK G F 4 eI 0 [some (va_rf a0), some (.int a1), some (.int a2), none] [] M z (fX1_reachesAcross a0 a1 a2 M z) := by
  unfold fX1_reachesAcross
  refine s_aload_n (pc := 0) hF dX1_reachesAcross_0 rfl rfl ?_
  refine s_getr (pc := 1) hF (fl_X1_25 hF) dX1_reachesAcross_1 (fun v1 => ?_)
  refine s_iload_n (pc := 4) hF dX1_reachesAcross_4 rfl rfl ?_
  refine s_iald (pc := 5) hF dX1_reachesAcross_5 (fun v2 => ?_)
  refine s_bipush (pc := 6) hF dX1_reachesAcross_6 (29 : Int32) (by decide) ?_
  refine s_icmp_eq (pc := 8) hF 30 dX1_reachesAcross_8 rfl ?_ ?_
  · refine s_iconst (pc := 30) hF dX1_reachesAcross_30 (0 : Int32) (by decide) ?_
    exact s_zretL (pc := 31) hF dX1_reachesAcross_31 (by decide)
  · refine s_iload_n (pc := 11) hF dX1_reachesAcross_11 rfl rfl ?_
    refine s_aload_n (pc := 12) hF dX1_reachesAcross_12 rfl rfl ?_
    refine s_getr (pc := 13) hF (fl_X1_16 hF) dX1_reachesAcross_13 (fun v3 => ?_)
    refine s_iload_n (pc := 16) hF dX1_reachesAcross_16 rfl rfl ?_
    refine s_iald (pc := 17) hF dX1_reachesAcross_17 (fun v4 => ?_)
    refine s_aload_n (pc := 18) hF dX1_reachesAcross_18 rfl rfl ?_
    refine s_getr (pc := 19) hF (fl_X1_19 hF) dX1_reachesAcross_19 (fun v5 => ?_)
    refine s_iload_n (pc := 22) hF dX1_reachesAcross_22 rfl rfl ?_
    refine s_iald (pc := 23) hF dX1_reachesAcross_23 (fun v6 => ?_)
    refine s_callS (pc := 24) (As := [.int a2, .int v4, .int v6]) (st := []) (stf := fun r9 => .int r9 :: []) hF (mX1_within a2 v4 v6) cw_X1_within q1147 q1148 rfl ⟨Nat.le_of_ble_eq_true rfl, Nat.le_of_ble_eq_true rfl⟩ ⟨trivial, Nat.le_of_ble_eq_true rfl⟩ dX1_reachesAcross_24 rfl (fun _ => rfl) (fun v7 M8 z9 => ?_)
    refine s_if_ne (pc := 27) hF 32 dX1_reachesAcross_27 rfl ?_ ?_
    · refine s_aload_n (pc := 32) hF dX1_reachesAcross_32 rfl rfl ?_
      refine s_getr (pc := 33) hF (fl_X1_16 hF) dX1_reachesAcross_33 (fun v10 => ?_)
      refine s_iload_n (pc := 36) hF dX1_reachesAcross_36 rfl rfl ?_
      refine s_iald (pc := 37) hF dX1_reachesAcross_37 (fun v11 => ?_)
      refine s_iconst (pc := 38) hF dX1_reachesAcross_38 (1 : Int32) (by decide) ?_
      refine s_iadd (pc := 39) hF dX1_reachesAcross_39 ?_
      refine s_istore_n (L9 := [some (va_rf a0), some (.int a1), some (.int a2), some (.int (v11 + (1 : Int32)))]) (pc := 40) hF dX1_reachesAcross_40 rfl (Nat.le_of_ble_eq_true rfl) rfl ?_
      exact SK.sb (gX1_reachesAcross_L41 hF FU a0 a1 a2 (v11 + (1 : Int32)) M8 z9) ⟨rfl, ⟨rfl, ⟨rfl, ⟨rfl, trivial⟩⟩⟩⟩
    · refine s_iconst (pc := 30) hF dX1_reachesAcross_30 (0 : Int32) (by decide) ?_
      exact s_zretL (pc := 31) hF dX1_reachesAcross_31 (by decide)
theorem mX1_reachesAcross (a0 : Option Nat) (a1 : Int32) (a2 : Int32) : MT yX1_reachesAcross cX1_reachesAcross 4 (Option.some Jvm.ClassFile.FieldType.boolean) 1 25 eI [va_rf a0, .int a1, .int a2] (fX1_reachesAcross a0 a1 a2) :=
  MT.of (L0 := [some (va_rf a0), some (.int a1), some (.int a2), none]) (by decide) ⟨ct _, ⟨rfl, ⟨rfl, trivial⟩⟩⟩ (Nat.le_of_ble_eq_true rfl) rfl (fun _ _ hF M z => gX1_reachesAcross hF a0 a1 a2 M z)

theorem cw_X1_reachesAcross : CWm yX1_reachesAcross cX1_reachesAcross 4 (Option.some Jvm.ClassFile.FieldType.boolean) 2 := ⟨q1209, q63, by decide +kernel, by decide +kernel, by decide +kernel⟩
def fX1_lastRow_J252 (r144 : Option Nat → Int32 → Int32 → Int32 → Int32 → Int32 → Mp → Nat → Rs Int32) (l0 : Option Nat) (l1 : Int32) (l2 : Int32) (l3 : Int32) (l5 : Int32) (s0 : Int32) (M : Mp) (z : Nat) : Rs Int32 := r144 l0 l1 l2 l3 s0 (l5 + 1) M z

theorem gX1_lastRow_J252 {G : Cx} {F : Option Value × Mp × Nat}  {r144 : Option Nat → Int32 → Int32 → Int32 → Int32 → Int32 → Mp → Nat → Rs Int32}(hF : FX G cX1_lastRow 7 RX1 (Option.some Jvm.ClassFile.FieldType.int) "lastRow" 2 48) (hr144 : ∀ l0 l1 l2 l3 l4 l5 M z, SK G F 7 eI 144 [some (va_rf l0), some (.int l1), some (.int l2), some (.int l3), some (.int l4), some (.int l5), none] [] M z (r144 l0 l1 l2 l3 l4 l5 M z)) (l0 : Option Nat) (l1 : Int32) (l2 : Int32) (l3 : Int32) (l5 : Int32) (s0 : Int32) (M : Mp) (z : Nat) : SK G F 7 eI 252 [some (va_rf l0), some (.int l1), some (.int l2), some (.int l3), none, some (.int l5), none] [.int s0] M z (fX1_lastRow_J252 r144 l0 l1 l2 l3 l5 s0 M z) := by
  unfold fX1_lastRow_J252
  refine s_istore (L9 := [some (va_rf l0), some (.int l1), some (.int l2), some (.int l3), some (.int s0), some (.int l5), none]) (pc := 252) hF dX1_lastRow_252 (Nat.le_of_ble_eq_true rfl) rfl ?_
  refine s_iinc (v := l5 + 1) (L9 := [some (va_rf l0), some (.int l1), some (.int l2), some (.int l3), some (.int s0), some (.int (l5 + 1)), none]) (pc := 254) hF dX1_lastRow_254 rfl rfl (Nat.le_of_ble_eq_true rfl) rfl ?_
  refine s_goto (pc := 257) hF 144 dX1_lastRow_257 rfl ?_
  exact SK.sb (hr144 l0 l1 l2 l3 s0 (l5 + 1) M z) ⟨rfl, ⟨rfl, ⟨rfl, ⟨rfl, ⟨rfl, ⟨rfl, trivial⟩⟩⟩⟩⟩⟩

def fX1_lastRow_J217 (r144 : Option Nat → Int32 → Int32 → Int32 → Int32 → Int32 → Mp → Nat → Rs Int32) (l0 : Option Nat) (l1 : Int32) (l2 : Int32) (l3 : Int32) (l4 : Int32) (l5 : Int32) (s0 : Int32) (M : Mp) (z : Nat) : Rs Int32 := if s0 = 0 then
  (fX1_lastRow_J252 r144 l0 l1 l2 l3 l5 l4 M z)
else
  ((gr M l0 [1] 13).bind fun v1 =>
(ai M 0 v1 l5).bind fun v2 =>
if (v2 - (1 : Int32)) < l4 then
  ((gr M l0 [1] 13).bind fun v3 =>
(ai M 0 v3 l5).bind fun v4 =>
fX1_lastRow_J252 r144 l0 l1 l2 l3 l5 (v4 - (1 : Int32)) M z)
else
  (fX1_lastRow_J252 r144 l0 l1 l2 l3 l5 l4 M z))

theorem gX1_lastRow_J217 {G : Cx} {F : Option Value × Mp × Nat}  {r144 : Option Nat → Int32 → Int32 → Int32 → Int32 → Int32 → Mp → Nat → Rs Int32}(hF : FX G cX1_lastRow 7 RX1 (Option.some Jvm.ClassFile.FieldType.int) "lastRow" 2 48) (hr144 : ∀ l0 l1 l2 l3 l4 l5 M z, SK G F 7 eI 144 [some (va_rf l0), some (.int l1), some (.int l2), some (.int l3), some (.int l4), some (.int l5), none] [] M z (r144 l0 l1 l2 l3 l4 l5 M z)) (l0 : Option Nat) (l1 : Int32) (l2 : Int32) (l3 : Int32) (l4 : Int32) (l5 : Int32) (s0 : Int32) (M : Mp) (z : Nat) : SK G F 7 eI 217 [some (va_rf l0), some (.int l1), some (.int l2), some (.int l3), some (.int l4), some (.int l5), none] [.int s0] M z (fX1_lastRow_J217 r144 l0 l1 l2 l3 l4 l5 s0 M z) := by
  unfold fX1_lastRow_J217
  refine s_istore (L9 := [some (va_rf l0), some (.int l1), some (.int l2), some (.int l3), some (.int l4), some (.int l5), some (.int s0)]) (pc := 217) hF dX1_lastRow_217 (Nat.le_of_ble_eq_true rfl) rfl ?_
  refine s_iload (pc := 219) hF dX1_lastRow_219 rfl ?_
  refine s_if_eq (pc := 221) hF 250 dX1_lastRow_221 rfl ?_ ?_
  · refine s_iload (pc := 250) hF dX1_lastRow_250 rfl ?_
    exact SK.sb (gX1_lastRow_J252 hF hr144 l0 l1 l2 l3 l5 l4 M z) ⟨rfl, ⟨rfl, ⟨rfl, ⟨rfl, ⟨rfl, trivial⟩⟩⟩⟩⟩
  · refine s_aload_n (pc := 224) hF dX1_lastRow_224 rfl rfl ?_
    refine s_getr (pc := 225) hF (fl_X1_43 hF) dX1_lastRow_225 (fun v1 => ?_)
    refine s_iload (pc := 228) hF dX1_lastRow_228 rfl ?_
    refine s_iald (pc := 230) hF dX1_lastRow_230 (fun v2 => ?_)
    refine s_iconst (pc := 231) hF dX1_lastRow_231 (1 : Int32) (by decide) ?_
    refine s_isub (pc := 232) hF dX1_lastRow_232 ?_
    refine s_iload (pc := 233) hF dX1_lastRow_233 rfl ?_
    refine s_icmp_ge (pc := 235) hF 250 dX1_lastRow_235 rfl ?_ ?_
    · refine s_iload (pc := 250) hF dX1_lastRow_250 rfl ?_
      exact SK.sb (gX1_lastRow_J252 hF hr144 l0 l1 l2 l3 l5 l4 M z) ⟨rfl, ⟨rfl, ⟨rfl, ⟨rfl, ⟨rfl, trivial⟩⟩⟩⟩⟩
    · refine s_aload_n (pc := 238) hF dX1_lastRow_238 rfl rfl ?_
      refine s_getr (pc := 239) hF (fl_X1_43 hF) dX1_lastRow_239 (fun v3 => ?_)
      refine s_iload (pc := 242) hF dX1_lastRow_242 rfl ?_
      refine s_iald (pc := 244) hF dX1_lastRow_244 (fun v4 => ?_)
      refine s_iconst (pc := 245) hF dX1_lastRow_245 (1 : Int32) (by decide) ?_
      refine s_isub (pc := 246) hF dX1_lastRow_246 ?_
      refine s_goto (pc := 247) hF 252 dX1_lastRow_247 rfl ?_
      exact SK.sb (gX1_lastRow_J252 hF hr144 l0 l1 l2 l3 l5 (v4 - (1 : Int32)) M z) ⟨rfl, ⟨rfl, ⟨rfl, ⟨rfl, ⟨rfl, trivial⟩⟩⟩⟩⟩

def fX1_lastRow_L144 : Nat → Option Nat → Int32 → Int32 → Int32 → Int32 → Int32 → Mp → Nat → Rs Int32
  | 0, _, _, _, _, _, _, _, _ => none
  | fu + 1, l0, l1, l2, l3, l4, l5, M, z => (gi M l0 [1] 10).bind fun v1 =>
if l5 < v1 then
  ((gr M l0 [1] 11).bind fun v2 =>
(ai M 0 v2 l5).bind fun v3 =>
(gr M l0 [1] 1).bind fun v4 =>
(ai M 0 v4 l1).bind fun v5 =>
if v3 = v5 then
  ((gr M l0 [1] 12).bind fun v6 =>
(ai M 0 v6 l5).bind fun v7 =>
if v7 = (1 : Int32) then
  ((gr M l0 [1] 14).bind fun v8 =>
(ai M 0 v8 l5).bind fun v9 =>
(gr M l0 [1] 15).bind fun v10 =>
(ai M 0 v10 l5).bind fun v11 =>
cb (fX1_within l2 v9 v11 M z) z fun v12 M13 z14 =>
if v12 = 0 then
  (fX1_lastRow_J217 (fX1_lastRow_L144 fu) l0 l1 l2 l3 l4 l5 (0 : Int32) M13 z14)
else
  ((gr M13 l0 [1] 13).bind fun v15 =>
(ai M13 0 v15 l5).bind fun v16 =>
if l3 < v16 then
  (fX1_lastRow_J217 (fX1_lastRow_L144 fu) l0 l1 l2 l3 l4 l5 (1 : Int32) M13 z14)
else
  (fX1_lastRow_J217 (fX1_lastRow_L144 fu) l0 l1 l2 l3 l4 l5 (0 : Int32) M13 z14)))
else
  (fX1_lastRow_J217 (fX1_lastRow_L144 fu) l0 l1 l2 l3 l4 l5 (0 : Int32) M z))
else
  (fX1_lastRow_J217 (fX1_lastRow_L144 fu) l0 l1 l2 l3 l4 l5 (0 : Int32) M z))
else
  (if l3 < l4 then
  (some (l4, M, 0, 0))
else
  (some ((-9 : Int32), M, 0, 0)))

theorem gX1_lastRow_L144 {G : Cx} {F : Option Value × Mp × Nat} (hF : FX G cX1_lastRow 7 RX1 (Option.some Jvm.ClassFile.FieldType.int) "lastRow" 2 48) : ∀ (fu : Nat) (l0 : Option Nat) (l1 : Int32) (l2 : Int32) (l3 : Int32) (l4 : Int32) (l5 : Int32) (M : Mp) (z : Nat), SK G F 7 eI 144 [some (va_rf l0), some (.int l1), some (.int l2), some (.int l3), some (.int l4), some (.int l5), none] [] M z (fX1_lastRow_L144 fu l0 l1 l2 l3 l4 l5 M z) := by
  intro fu
  induction fu with
  | zero => intros; exact SK.fail
  | succ fu ih =>
    intro l0 l1 l2 l3 l4 l5 M z
    rw [fX1_lastRow_L144]
    refine s_iload (pc := 144) hF dX1_lastRow_144 rfl ?_
    refine s_aload_n (pc := 146) hF dX1_lastRow_146 rfl rfl ?_
    refine s_geti (pc := 147) hF (fl_X1_114 hF) dX1_lastRow_147 (fun v1 => ?_)
    refine s_icmp_ge (pc := 150) hF 260 dX1_lastRow_150 rfl ?_ ?_
    · refine s_iload (pc := 260) hF dX1_lastRow_260 rfl ?_
      refine s_iload_n (pc := 262) hF dX1_lastRow_262 rfl rfl ?_
      refine s_icmp_le (pc := 263) hF 271 dX1_lastRow_263 rfl ?_ ?_
      · refine s_bipush (pc := 271) hF dX1_lastRow_271 (-9 : Int32) (by decide) ?_
        exact s_iret (pc := 273) hF dX1_lastRow_273
      · refine s_iload (pc := 266) hF dX1_lastRow_266 rfl ?_
        refine s_goto (pc := 268) hF 273 dX1_lastRow_268 rfl ?_
        exact s_iret (pc := 273) hF dX1_lastRow_273
    · refine s_aload_n (pc := 153) hF dX1_lastRow_153 rfl rfl ?_
      refine s_getr (pc := 154) hF (fl_X1_37 hF) dX1_lastRow_154 (fun v2 => ?_)
      refine s_iload (pc := 157) hF dX1_lastRow_157 rfl ?_
      refine s_iald (pc := 159) hF dX1_lastRow_159 (fun v3 => ?_)
      refine s_aload_n (pc := 160) hF dX1_lastRow_160 rfl rfl ?_
      refine s_getr (pc := 161) hF (fl_X1_7 hF) dX1_lastRow_161 (fun v4 => ?_)
      refine s_iload_n (pc := 164) hF dX1_lastRow_164 rfl rfl ?_
      refine s_iald (pc := 165) hF dX1_lastRow_165 (fun v5 => ?_)
      refine s_icmp_ne (pc := 166) hF 216 dX1_lastRow_166 rfl ?_ ?_
      · refine s_iconst (pc := 216) hF dX1_lastRow_216 (0 : Int32) (by decide) ?_
        exact SK.sb (gX1_lastRow_J217 hF ih l0 l1 l2 l3 l4 l5 (0 : Int32) M z) ⟨rfl, ⟨rfl, ⟨rfl, ⟨rfl, ⟨rfl, ⟨rfl, trivial⟩⟩⟩⟩⟩⟩
      · refine s_aload_n (pc := 169) hF dX1_lastRow_169 rfl rfl ?_
        refine s_getr (pc := 170) hF (fl_X1_40 hF) dX1_lastRow_170 (fun v6 => ?_)
        refine s_iload (pc := 173) hF dX1_lastRow_173 rfl ?_
        refine s_iald (pc := 175) hF dX1_lastRow_175 (fun v7 => ?_)
        refine s_iconst (pc := 176) hF dX1_lastRow_176 (1 : Int32) (by decide) ?_
        refine s_icmp_ne (pc := 177) hF 216 dX1_lastRow_177 rfl ?_ ?_
        · refine s_iconst (pc := 216) hF dX1_lastRow_216 (0 : Int32) (by decide) ?_
          exact SK.sb (gX1_lastRow_J217 hF ih l0 l1 l2 l3 l4 l5 (0 : Int32) M z) ⟨rfl, ⟨rfl, ⟨rfl, ⟨rfl, ⟨rfl, ⟨rfl, trivial⟩⟩⟩⟩⟩⟩
        · refine s_iload_n (pc := 180) hF dX1_lastRow_180 rfl rfl ?_
          refine s_aload_n (pc := 181) hF dX1_lastRow_181 rfl rfl ?_
          refine s_getr (pc := 182) hF (fl_X1_46 hF) dX1_lastRow_182 (fun v8 => ?_)
          refine s_iload (pc := 185) hF dX1_lastRow_185 rfl ?_
          refine s_iald (pc := 187) hF dX1_lastRow_187 (fun v9 => ?_)
          refine s_aload_n (pc := 188) hF dX1_lastRow_188 rfl rfl ?_
          refine s_getr (pc := 189) hF (fl_X1_49 hF) dX1_lastRow_189 (fun v10 => ?_)
          refine s_iload (pc := 192) hF dX1_lastRow_192 rfl ?_
          refine s_iald (pc := 194) hF dX1_lastRow_194 (fun v11 => ?_)
          refine s_callS (pc := 195) (As := [.int l2, .int v9, .int v11]) (st := []) (stf := fun r9 => .int r9 :: []) hF (mX1_within l2 v9 v11) cw_X1_within q1147 q1148 rfl ⟨Nat.le_of_ble_eq_true rfl, Nat.le_of_ble_eq_true rfl⟩ ⟨trivial, Nat.le_of_ble_eq_true rfl⟩ dX1_lastRow_195 rfl (fun _ => rfl) (fun v12 M13 z14 => ?_)
          refine s_if_eq (pc := 198) hF 216 dX1_lastRow_198 rfl ?_ ?_
          · refine s_iconst (pc := 216) hF dX1_lastRow_216 (0 : Int32) (by decide) ?_
            exact SK.sb (gX1_lastRow_J217 hF ih l0 l1 l2 l3 l4 l5 (0 : Int32) M13 z14) ⟨rfl, ⟨rfl, ⟨rfl, ⟨rfl, ⟨rfl, ⟨rfl, trivial⟩⟩⟩⟩⟩⟩
          · refine s_aload_n (pc := 201) hF dX1_lastRow_201 rfl rfl ?_
            refine s_getr (pc := 202) hF (fl_X1_43 hF) dX1_lastRow_202 (fun v15 => ?_)
            refine s_iload (pc := 205) hF dX1_lastRow_205 rfl ?_
            refine s_iald (pc := 207) hF dX1_lastRow_207 (fun v16 => ?_)
            refine s_iload_n (pc := 208) hF dX1_lastRow_208 rfl rfl ?_
            refine s_icmp_le (pc := 209) hF 216 dX1_lastRow_209 rfl ?_ ?_
            · refine s_iconst (pc := 216) hF dX1_lastRow_216 (0 : Int32) (by decide) ?_
              exact SK.sb (gX1_lastRow_J217 hF ih l0 l1 l2 l3 l4 l5 (0 : Int32) M13 z14) ⟨rfl, ⟨rfl, ⟨rfl, ⟨rfl, ⟨rfl, ⟨rfl, trivial⟩⟩⟩⟩⟩⟩
            · refine s_iconst (pc := 212) hF dX1_lastRow_212 (1 : Int32) (by decide) ?_
              refine s_goto (pc := 213) hF 217 dX1_lastRow_213 rfl ?_
              exact SK.sb (gX1_lastRow_J217 hF ih l0 l1 l2 l3 l4 l5 (1 : Int32) M13 z14) ⟨rfl, ⟨rfl, ⟨rfl, ⟨rfl, ⟨rfl, ⟨rfl, trivial⟩⟩⟩⟩⟩⟩

def fX1_lastRow_J133 (r26 : Option Nat → Int32 → Int32 → Int32 → Int32 → Int32 → Mp → Nat → Rs Int32) (l0 : Option Nat) (l1 : Int32) (l2 : Int32) (l3 : Int32) (l5 : Int32) (s0 : Int32) (M : Mp) (z : Nat) : Rs Int32 := r26 l0 l1 l2 l3 s0 (l5 + 1) M z

theorem gX1_lastRow_J133 {G : Cx} {F : Option Value × Mp × Nat}  {r26 : Option Nat → Int32 → Int32 → Int32 → Int32 → Int32 → Mp → Nat → Rs Int32}(hF : FX G cX1_lastRow 7 RX1 (Option.some Jvm.ClassFile.FieldType.int) "lastRow" 2 48) (hr26 : ∀ l0 l1 l2 l3 l4 l5 M z, SK G F 7 eI 26 [some (va_rf l0), some (.int l1), some (.int l2), some (.int l3), some (.int l4), some (.int l5), none] [] M z (r26 l0 l1 l2 l3 l4 l5 M z)) (l0 : Option Nat) (l1 : Int32) (l2 : Int32) (l3 : Int32) (l5 : Int32) (s0 : Int32) (M : Mp) (z : Nat) : SK G F 7 eI 133 [some (va_rf l0), some (.int l1), some (.int l2), some (.int l3), none, some (.int l5), none] [.int s0] M z (fX1_lastRow_J133 r26 l0 l1 l2 l3 l5 s0 M z) := by
  unfold fX1_lastRow_J133
  refine s_istore (L9 := [some (va_rf l0), some (.int l1), some (.int l2), some (.int l3), some (.int s0), some (.int l5), none]) (pc := 133) hF dX1_lastRow_133 (Nat.le_of_ble_eq_true rfl) rfl ?_
  refine s_iinc (v := l5 + 1) (L9 := [some (va_rf l0), some (.int l1), some (.int l2), some (.int l3), some (.int s0), some (.int (l5 + 1)), none]) (pc := 135) hF dX1_lastRow_135 rfl rfl (Nat.le_of_ble_eq_true rfl) rfl ?_
  refine s_goto (pc := 138) hF 26 dX1_lastRow_138 rfl ?_
  exact SK.sb (hr26 l0 l1 l2 l3 s0 (l5 + 1) M z) ⟨rfl, ⟨rfl, ⟨rfl, ⟨rfl, ⟨rfl, ⟨rfl, trivial⟩⟩⟩⟩⟩⟩

def fX1_lastRow_J98 (r26 : Option Nat → Int32 → Int32 → Int32 → Int32 → Int32 → Mp → Nat → Rs Int32) (l0 : Option Nat) (l1 : Int32) (l2 : Int32) (l3 : Int32) (l4 : Int32) (l5 : Int32) (s0 : Int32) (M : Mp) (z : Nat) : Rs Int32 := if s0 = 0 then
  (fX1_lastRow_J133 r26 l0 l1 l2 l3 l5 l4 M z)
else
  ((gr M l0 [1] 5).bind fun v1 =>
(ai M 0 v1 l5).bind fun v2 =>
if (v2 - (1 : Int32)) < l4 then
  ((gr M l0 [1] 5).bind fun v3 =>
(ai M 0 v3 l5).bind fun v4 =>
fX1_lastRow_J133 r26 l0 l1 l2 l3 l5 (v4 - (1 : Int32)) M z)
else
  (fX1_lastRow_J133 r26 l0 l1 l2 l3 l5 l4 M z))

theorem gX1_lastRow_J98 {G : Cx} {F : Option Value × Mp × Nat}  {r26 : Option Nat → Int32 → Int32 → Int32 → Int32 → Int32 → Mp → Nat → Rs Int32}(hF : FX G cX1_lastRow 7 RX1 (Option.some Jvm.ClassFile.FieldType.int) "lastRow" 2 48) (hr26 : ∀ l0 l1 l2 l3 l4 l5 M z, SK G F 7 eI 26 [some (va_rf l0), some (.int l1), some (.int l2), some (.int l3), some (.int l4), some (.int l5), none] [] M z (r26 l0 l1 l2 l3 l4 l5 M z)) (l0 : Option Nat) (l1 : Int32) (l2 : Int32) (l3 : Int32) (l4 : Int32) (l5 : Int32) (s0 : Int32) (M : Mp) (z : Nat) : SK G F 7 eI 98 [some (va_rf l0), some (.int l1), some (.int l2), some (.int l3), some (.int l4), some (.int l5), none] [.int s0] M z (fX1_lastRow_J98 r26 l0 l1 l2 l3 l4 l5 s0 M z) := by
  unfold fX1_lastRow_J98
  refine s_istore (L9 := [some (va_rf l0), some (.int l1), some (.int l2), some (.int l3), some (.int l4), some (.int l5), some (.int s0)]) (pc := 98) hF dX1_lastRow_98 (Nat.le_of_ble_eq_true rfl) rfl ?_
  refine s_iload (pc := 100) hF dX1_lastRow_100 rfl ?_
  refine s_if_eq (pc := 102) hF 131 dX1_lastRow_102 rfl ?_ ?_
  · refine s_iload (pc := 131) hF dX1_lastRow_131 rfl ?_
    exact SK.sb (gX1_lastRow_J133 hF hr26 l0 l1 l2 l3 l5 l4 M z) ⟨rfl, ⟨rfl, ⟨rfl, ⟨rfl, ⟨rfl, trivial⟩⟩⟩⟩⟩
  · refine s_aload_n (pc := 105) hF dX1_lastRow_105 rfl rfl ?_
    refine s_getr (pc := 106) hF (fl_X1_22 hF) dX1_lastRow_106 (fun v1 => ?_)
    refine s_iload (pc := 109) hF dX1_lastRow_109 rfl ?_
    refine s_iald (pc := 111) hF dX1_lastRow_111 (fun v2 => ?_)
    refine s_iconst (pc := 112) hF dX1_lastRow_112 (1 : Int32) (by decide) ?_
    refine s_isub (pc := 113) hF dX1_lastRow_113 ?_
    refine s_iload (pc := 114) hF dX1_lastRow_114 rfl ?_
    refine s_icmp_ge (pc := 116) hF 131 dX1_lastRow_116 rfl ?_ ?_
    · refine s_iload (pc := 131) hF dX1_lastRow_131 rfl ?_
      exact SK.sb (gX1_lastRow_J133 hF hr26 l0 l1 l2 l3 l5 l4 M z) ⟨rfl, ⟨rfl, ⟨rfl, ⟨rfl, ⟨rfl, trivial⟩⟩⟩⟩⟩
    · refine s_aload_n (pc := 119) hF dX1_lastRow_119 rfl rfl ?_
      refine s_getr (pc := 120) hF (fl_X1_22 hF) dX1_lastRow_120 (fun v3 => ?_)
      refine s_iload (pc := 123) hF dX1_lastRow_123 rfl ?_
      refine s_iald (pc := 125) hF dX1_lastRow_125 (fun v4 => ?_)
      refine s_iconst (pc := 126) hF dX1_lastRow_126 (1 : Int32) (by decide) ?_
      refine s_isub (pc := 127) hF dX1_lastRow_127 ?_
      refine s_goto (pc := 128) hF 133 dX1_lastRow_128 rfl ?_
      exact SK.sb (gX1_lastRow_J133 hF hr26 l0 l1 l2 l3 l5 (v4 - (1 : Int32)) M z) ⟨rfl, ⟨rfl, ⟨rfl, ⟨rfl, ⟨rfl, trivial⟩⟩⟩⟩⟩

def fX1_lastRow_L26 : Nat → Option Nat → Int32 → Int32 → Int32 → Int32 → Int32 → Mp → Nat → Rs Int32
  | 0, _, _, _, _, _, _, _, _ => none
  | fu + 1, l0, l1, l2, l3, l4, l5, M, z => (gi M l0 [1] 0).bind fun v1 =>
if l5 < v1 then
  ((gr M l0 [1] 1).bind fun v2 =>
(ai M 0 v2 l5).bind fun v3 =>
(gr M l0 [1] 1).bind fun v4 =>
(ai M 0 v4 l1).bind fun v5 =>
if v3 = v5 then
  ((gr M l0 [1] 2).bind fun v6 =>
(ai M 0 v6 l5).bind fun v7 =>
if v7 = 0 then
  ((gr M l0 [1] 3).bind fun v8 =>
(ai M 0 v8 l5).bind fun v9 =>
(gr M l0 [1] 4).bind fun v10 =>
(ai M 0 v10 l5).bind fun v11 =>
cb (fX1_within l2 v9 v11 M z) z fun v12 M13 z14 =>
if v12 = 0 then
  (fX1_lastRow_J98 (fX1_lastRow_L26 fu) l0 l1 l2 l3 l4 l5 (0 : Int32) M13 z14)
else
  ((gr M13 l0 [1] 5).bind fun v15 =>
(ai M13 0 v15 l5).bind fun v16 =>
if l3 < v16 then
  (fX1_lastRow_J98 (fX1_lastRow_L26 fu) l0 l1 l2 l3 l4 l5 (1 : Int32) M13 z14)
else
  (fX1_lastRow_J98 (fX1_lastRow_L26 fu) l0 l1 l2 l3 l4 l5 (0 : Int32) M13 z14)))
else
  (fX1_lastRow_J98 (fX1_lastRow_L26 fu) l0 l1 l2 l3 l4 l5 (0 : Int32) M z))
else
  (fX1_lastRow_J98 (fX1_lastRow_L26 fu) l0 l1 l2 l3 l4 l5 (0 : Int32) M z))
else
  (fX1_lastRow_L144 FU l0 l1 l2 l3 l4 (0 : Int32) M z)

theorem gX1_lastRow_L26 {G : Cx} {F : Option Value × Mp × Nat} (hF : FX G cX1_lastRow 7 RX1 (Option.some Jvm.ClassFile.FieldType.int) "lastRow" 2 48) : ∀ (fu : Nat) (l0 : Option Nat) (l1 : Int32) (l2 : Int32) (l3 : Int32) (l4 : Int32) (l5 : Int32) (M : Mp) (z : Nat), SK G F 7 eI 26 [some (va_rf l0), some (.int l1), some (.int l2), some (.int l3), some (.int l4), some (.int l5), none] [] M z (fX1_lastRow_L26 fu l0 l1 l2 l3 l4 l5 M z) := by
  intro fu
  induction fu with
  | zero => intros; exact SK.fail
  | succ fu ih =>
    intro l0 l1 l2 l3 l4 l5 M z
    rw [fX1_lastRow_L26]
    refine s_iload (pc := 26) hF dX1_lastRow_26 rfl ?_
    refine s_aload_n (pc := 28) hF dX1_lastRow_28 rfl rfl ?_
    refine s_geti (pc := 29) hF (fl_X1_98 hF) dX1_lastRow_29 (fun v1 => ?_)
    refine s_icmp_ge (pc := 32) hF 141 dX1_lastRow_32 rfl ?_ ?_
    · refine s_iconst (pc := 141) hF dX1_lastRow_141 (0 : Int32) (by decide) ?_
      refine s_istore (L9 := [some (va_rf l0), some (.int l1), some (.int l2), some (.int l3), some (.int l4), some (.int (0 : Int32)), none]) (pc := 142) hF dX1_lastRow_142 (Nat.le_of_ble_eq_true rfl) rfl ?_
      exact SK.sb (gX1_lastRow_L144 hF FU l0 l1 l2 l3 l4 (0 : Int32) M z) ⟨rfl, ⟨rfl, ⟨rfl, ⟨rfl, ⟨rfl, ⟨rfl, trivial⟩⟩⟩⟩⟩⟩
    · refine s_aload_n (pc := 35) hF dX1_lastRow_35 rfl rfl ?_
      refine s_getr (pc := 36) hF (fl_X1_7 hF) dX1_lastRow_36 (fun v2 => ?_)
      refine s_iload (pc := 39) hF dX1_lastRow_39 rfl ?_
      refine s_iald (pc := 41) hF dX1_lastRow_41 (fun v3 => ?_)
      refine s_aload_n (pc := 42) hF dX1_lastRow_42 rfl rfl ?_
      refine s_getr (pc := 43) hF (fl_X1_7 hF) dX1_lastRow_43 (fun v4 => ?_)
      refine s_iload_n (pc := 46) hF dX1_lastRow_46 rfl rfl ?_
      refine s_iald (pc := 47) hF dX1_lastRow_47 (fun v5 => ?_)
      refine s_icmp_ne (pc := 48) hF 97 dX1_lastRow_48 rfl ?_ ?_
      · refine s_iconst (pc := 97) hF dX1_lastRow_97 (0 : Int32) (by decide) ?_
        exact SK.sb (gX1_lastRow_J98 hF ih l0 l1 l2 l3 l4 l5 (0 : Int32) M z) ⟨rfl, ⟨rfl, ⟨rfl, ⟨rfl, ⟨rfl, ⟨rfl, trivial⟩⟩⟩⟩⟩⟩
      · refine s_aload_n (pc := 51) hF dX1_lastRow_51 rfl rfl ?_
        refine s_getr (pc := 52) hF (fl_X1_13 hF) dX1_lastRow_52 (fun v6 => ?_)
        refine s_iload (pc := 55) hF dX1_lastRow_55 rfl ?_
        refine s_iald (pc := 57) hF dX1_lastRow_57 (fun v7 => ?_)
        refine s_if_ne (pc := 58) hF 97 dX1_lastRow_58 rfl ?_ ?_
        · refine s_iconst (pc := 97) hF dX1_lastRow_97 (0 : Int32) (by decide) ?_
          exact SK.sb (gX1_lastRow_J98 hF ih l0 l1 l2 l3 l4 l5 (0 : Int32) M z) ⟨rfl, ⟨rfl, ⟨rfl, ⟨rfl, ⟨rfl, ⟨rfl, trivial⟩⟩⟩⟩⟩⟩
        · refine s_iload_n (pc := 61) hF dX1_lastRow_61 rfl rfl ?_
          refine s_aload_n (pc := 62) hF dX1_lastRow_62 rfl rfl ?_
          refine s_getr (pc := 63) hF (fl_X1_16 hF) dX1_lastRow_63 (fun v8 => ?_)
          refine s_iload (pc := 66) hF dX1_lastRow_66 rfl ?_
          refine s_iald (pc := 68) hF dX1_lastRow_68 (fun v9 => ?_)
          refine s_aload_n (pc := 69) hF dX1_lastRow_69 rfl rfl ?_
          refine s_getr (pc := 70) hF (fl_X1_19 hF) dX1_lastRow_70 (fun v10 => ?_)
          refine s_iload (pc := 73) hF dX1_lastRow_73 rfl ?_
          refine s_iald (pc := 75) hF dX1_lastRow_75 (fun v11 => ?_)
          refine s_callS (pc := 76) (As := [.int l2, .int v9, .int v11]) (st := []) (stf := fun r9 => .int r9 :: []) hF (mX1_within l2 v9 v11) cw_X1_within q1147 q1148 rfl ⟨Nat.le_of_ble_eq_true rfl, Nat.le_of_ble_eq_true rfl⟩ ⟨trivial, Nat.le_of_ble_eq_true rfl⟩ dX1_lastRow_76 rfl (fun _ => rfl) (fun v12 M13 z14 => ?_)
          refine s_if_eq (pc := 79) hF 97 dX1_lastRow_79 rfl ?_ ?_
          · refine s_iconst (pc := 97) hF dX1_lastRow_97 (0 : Int32) (by decide) ?_
            exact SK.sb (gX1_lastRow_J98 hF ih l0 l1 l2 l3 l4 l5 (0 : Int32) M13 z14) ⟨rfl, ⟨rfl, ⟨rfl, ⟨rfl, ⟨rfl, ⟨rfl, trivial⟩⟩⟩⟩⟩⟩
          · refine s_aload_n (pc := 82) hF dX1_lastRow_82 rfl rfl ?_
            refine s_getr (pc := 83) hF (fl_X1_22 hF) dX1_lastRow_83 (fun v15 => ?_)
            refine s_iload (pc := 86) hF dX1_lastRow_86 rfl ?_
            refine s_iald (pc := 88) hF dX1_lastRow_88 (fun v16 => ?_)
            refine s_iload_n (pc := 89) hF dX1_lastRow_89 rfl rfl ?_
            refine s_icmp_le (pc := 90) hF 97 dX1_lastRow_90 rfl ?_ ?_
            · refine s_iconst (pc := 97) hF dX1_lastRow_97 (0 : Int32) (by decide) ?_
              exact SK.sb (gX1_lastRow_J98 hF ih l0 l1 l2 l3 l4 l5 (0 : Int32) M13 z14) ⟨rfl, ⟨rfl, ⟨rfl, ⟨rfl, ⟨rfl, ⟨rfl, trivial⟩⟩⟩⟩⟩⟩
            · refine s_iconst (pc := 93) hF dX1_lastRow_93 (1 : Int32) (by decide) ?_
              refine s_goto (pc := 94) hF 98 dX1_lastRow_94 rfl ?_
              exact SK.sb (gX1_lastRow_J98 hF ih l0 l1 l2 l3 l4 l5 (1 : Int32) M13 z14) ⟨rfl, ⟨rfl, ⟨rfl, ⟨rfl, ⟨rfl, ⟨rfl, trivial⟩⟩⟩⟩⟩⟩
def fX1_lastRow (a0 : Option Nat) (a1 : Int32) (a2 : Int32) (M : Mp) (z : Nat) : Rs Int32 := if ckc M a0 [1] = true then
  (cb (fX1_reachesAcross a0 a1 a2 M z) z fun v1 M2 z3 =>
if v1 = 0 then
  (some ((-9 : Int32), M2, 0, 0))
else
  ((gr M2 a0 [1] 6).bind fun v4 =>
(ai M2 0 v4 a1).bind fun v5 =>
fX1_lastRow_L26 FU a0 a1 a2 v5 (29 : Int32) (0 : Int32) M2 z3))
else none
theorem gX1_lastRow {G : Cx} {F : Option Value × Mp × Nat} (hF : FX G cX1_lastRow 7 RX1 (Option.some Jvm.ClassFile.FieldType.int) "lastRow" 2 48) (a0 : Option Nat) (a1 : Int32) (a2 : Int32) (M : Mp) (z : Nat) : SK G F 7 eI 0 [some (va_rf a0), some (.int a1), some (.int a2), none, none, none, none] [] M z (fX1_lastRow a0 a1 a2 M z) := by
  unfold fX1_lastRow
  refine s_aload_n (pc := 0) hF dX1_lastRow_0 rfl rfl ?_
  refine s_iload_n (pc := 1) hF dX1_lastRow_1 rfl rfl ?_
  refine s_iload_n (pc := 2) hF dX1_lastRow_2 rfl rfl ?_
  refine s_callV (pc := 3) (As := [.int a1, .int a2]) (st := []) (stf := fun r9 => .int r9 :: []) hF (mX1_reachesAcross a0 a1 a2) cw_X1_reachesAcross q1206 q1208 (List.forall_mem_cons.mpr ⟨⟨(RX1, TX1, 34), rfl, qs31⟩, fun _ h9 => absurd h9 List.not_mem_nil⟩) rfl ⟨Nat.le_of_ble_eq_true rfl, Nat.le_of_ble_eq_true rfl⟩ ⟨trivial, Nat.le_of_ble_eq_true rfl⟩ dX1_lastRow_3 rfl (fun _ => rfl) (fun v1 M2 z3 => ?_)
  refine s_if_ne (pc := 6) hF 12 dX1_lastRow_6 rfl ?_ ?_
  · refine s_aload_n (pc := 12) hF dX1_lastRow_12 rfl rfl ?_
    refine s_getr (pc := 13) hF (fl_X1_25 hF) dX1_lastRow_13 (fun v4 => ?_)
    refine s_iload_n (pc := 16) hF dX1_lastRow_16 rfl rfl ?_
    refine s_iald (pc := 17) hF dX1_lastRow_17 (fun v5 => ?_)
    refine s_istore_n (L9 := [some (va_rf a0), some (.int a1), some (.int a2), some (.int v5), none, none, none]) (pc := 18) hF dX1_lastRow_18 rfl (Nat.le_of_ble_eq_true rfl) rfl ?_
    refine s_bipush (pc := 19) hF dX1_lastRow_19 (29 : Int32) (by decide) ?_
    refine s_istore (L9 := [some (va_rf a0), some (.int a1), some (.int a2), some (.int v5), some (.int (29 : Int32)), none, none]) (pc := 21) hF dX1_lastRow_21 (Nat.le_of_ble_eq_true rfl) rfl ?_
    refine s_iconst (pc := 23) hF dX1_lastRow_23 (0 : Int32) (by decide) ?_
    refine s_istore (L9 := [some (va_rf a0), some (.int a1), some (.int a2), some (.int v5), some (.int (29 : Int32)), some (.int (0 : Int32)), none]) (pc := 24) hF dX1_lastRow_24 (Nat.le_of_ble_eq_true rfl) rfl ?_
    exact SK.sb (gX1_lastRow_L26 hF FU a0 a1 a2 v5 (29 : Int32) (0 : Int32) M2 z3) ⟨rfl, ⟨rfl, ⟨rfl, ⟨rfl, ⟨rfl, ⟨rfl, trivial⟩⟩⟩⟩⟩⟩
  · refine s_bipush (pc := 9) hF dX1_lastRow_9 (-9 : Int32) (by decide) ?_
    exact s_iret (pc := 11) hF dX1_lastRow_11
theorem mX1_lastRow (a0 : Option Nat) (a1 : Int32) (a2 : Int32) : MT yX1_lastRow cX1_lastRow 7 (Option.some Jvm.ClassFile.FieldType.int) 2 48 eI [va_rf a0, .int a1, .int a2] (fX1_lastRow a0 a1 a2) :=
  MT.of (L0 := [some (va_rf a0), some (.int a1), some (.int a2), none, none, none, none]) (by decide) ⟨ct _, ⟨rfl, ⟨rfl, trivial⟩⟩⟩ (Nat.le_of_ble_eq_true rfl) rfl (fun _ _ hF M z => gX1_lastRow hF a0 a1 a2 M z)

theorem cw_X1_lastRow : CWm yX1_lastRow cX1_lastRow 7 (Option.some Jvm.ClassFile.FieldType.int) 2 := ⟨q1205, q63, by decide +kernel, by decide +kernel, by decide +kernel⟩
theorem cw_X1_isHead : CWm yX1_isHead cX1_isHead 2 (Option.some Jvm.ClassFile.FieldType.boolean) 1 := ⟨q1201, q63, by decide +kernel, by decide +kernel, by decide +kernel⟩
def fX1_reach (a0 : Option Nat) (a1 : Int32) (a2 : Int32) (M : Mp) (z : Nat) : Rs Int32 := if ckc M a0 [1] = true then
  (cb (fX1_isHead a0 a1 M z) z fun v1 M2 z3 =>
if v1 = 0 then
  (some ((-1 : Int32), M2, 0, 0))
else
  (cb (fX1_within a2 (0 : Int32) (7 : Int32) M2 z3) z3 fun v4 M5 z6 =>
if v4 = 0 then
  (some ((-2 : Int32), M5, 0, 0))
else
  (if ckc M5 a0 [1] = true then
  (cb (fX1_lastRow a0 a1 a2 M5 z6) z6 fun v7 M8 z9 =>
some (v7, M8, 0, 0))
else none)))
else none
theorem gX1_reach {G : Cx} {F : Option Value × Mp × Nat} (hF : FX G cX1_reach 3 RX1 (Option.some Jvm.ClassFile.FieldType.int) "reach" 3 74) (a0 : Option Nat) (a1 : Int32) (a2 : Int32) (M : Mp) (z : Nat) : SK G F 3 eI 0 [some (va_rf a0), some (.int a1), some (.int a2)] [] M z (fX1_reach a0 a1 a2 M z) := by
  unfold fX1_reach
  refine s_aload_n (pc := 0) hF dX1_reach_0 rfl rfl ?_
  refine s_iload_n (pc := 1) hF dX1_reach_1 rfl rfl ?_
  refine s_callV (pc := 2) (As := [.int a1]) (st := []) (stf := fun r9 => .int r9 :: []) hF (mX1_isHead a0 a1) cw_X1_isHead q1198 q1200 (List.forall_mem_cons.mpr ⟨⟨(RX1, TX1, 34), rfl, qs29⟩, fun _ h9 => absurd h9 List.not_mem_nil⟩) rfl ⟨Nat.le_of_ble_eq_true rfl, Nat.le_of_ble_eq_true rfl⟩ ⟨trivial, Nat.le_of_ble_eq_true rfl⟩ dX1_reach_2 rfl (fun _ => rfl) (fun v1 M2 z3 => ?_)
  refine s_if_ne (pc := 5) hF 10 dX1_reach_5 rfl ?_ ?_
  · refine s_iload_n (pc := 10) hF dX1_reach_10 rfl rfl ?_
    refine s_iconst (pc := 11) hF dX1_reach_11 (0 : Int32) (by decide) ?_
    refine s_bipush (pc := 12) hF dX1_reach_12 (7 : Int32) (by decide) ?_
    refine s_callS (pc := 14) (As := [.int a2, .int (0 : Int32), .int (7 : Int32)]) (st := []) (stf := fun r9 => .int r9 :: []) hF (mX1_within a2 (0 : Int32) (7 : Int32)) cw_X1_within q1147 q1148 rfl ⟨Nat.le_of_ble_eq_true rfl, Nat.le_of_ble_eq_true rfl⟩ ⟨trivial, Nat.le_of_ble_eq_true rfl⟩ dX1_reach_14 rfl (fun _ => rfl) (fun v4 M5 z6 => ?_)
    refine s_if_eq (pc := 17) hF 29 dX1_reach_17 rfl ?_ ?_
    · refine s_bipush (pc := 29) hF dX1_reach_29 (-2 : Int32) (by decide) ?_
      exact s_iret (pc := 31) hF dX1_reach_31
    · refine s_aload_n (pc := 20) hF dX1_reach_20 rfl rfl ?_
      refine s_iload_n (pc := 21) hF dX1_reach_21 rfl rfl ?_
      refine s_iload_n (pc := 22) hF dX1_reach_22 rfl rfl ?_
      refine s_callV (pc := 23) (As := [.int a1, .int a2]) (st := []) (stf := fun r9 => .int r9 :: []) hF (mX1_lastRow a0 a1 a2) cw_X1_lastRow q1202 q1204 (List.forall_mem_cons.mpr ⟨⟨(RX1, TX1, 34), rfl, qs30⟩, fun _ h9 => absurd h9 List.not_mem_nil⟩) rfl ⟨Nat.le_of_ble_eq_true rfl, Nat.le_of_ble_eq_true rfl⟩ ⟨trivial, Nat.le_of_ble_eq_true rfl⟩ dX1_reach_23 rfl (fun _ => rfl) (fun v7 M8 z9 => ?_)
      refine s_goto (pc := 26) hF 31 dX1_reach_26 rfl ?_
      exact s_iret (pc := 31) hF dX1_reach_31
  · refine s_iconst (pc := 8) hF dX1_reach_8 (-1 : Int32) (by decide) ?_
    exact s_iret (pc := 9) hF dX1_reach_9
theorem mX1_reach (a0 : Option Nat) (a1 : Int32) (a2 : Int32) : MT yX1_reach cX1_reach 3 (Option.some Jvm.ClassFile.FieldType.int) 3 74 eI [va_rf a0, .int a1, .int a2] (fX1_reach a0 a1 a2) :=
  MT.of (L0 := [some (va_rf a0), some (.int a1), some (.int a2)]) (by decide) ⟨ct _, ⟨rfl, ⟨rfl, trivial⟩⟩⟩ (Nat.le_of_ble_eq_true rfl) rfl (fun _ _ hF M z => gX1_reach hF a0 a1 a2 M z)

def fX1_headOver_J90 (r2 : Option Nat → Int32 → Int32 → Mp → Nat → Rs Int32) (l0 : Option Nat) (l1 : Int32) (l2 : Int32) (M : Mp) (z : Nat) : Rs Int32 := r2 l0 l1 (l2 + 1) M z

theorem gX1_headOver_J90 {G : Cx} {F : Option Value × Mp × Nat}  {r2 : Option Nat → Int32 → Int32 → Mp → Nat → Rs Int32}(hF : FX G cX1_headOver 4 RX1 (Option.some Jvm.ClassFile.FieldType.int) "headOver" 3 74) (hr2 : ∀ l0 l1 l2 M z, SK G F 4 eI 2 [some (va_rf l0), some (.int l1), some (.int l2), none] [] M z (r2 l0 l1 l2 M z)) (l0 : Option Nat) (l1 : Int32) (l2 : Int32) (M : Mp) (z : Nat) : SK G F 4 eI 90 [some (va_rf l0), some (.int l1), some (.int l2), none] [] M z (fX1_headOver_J90 r2 l0 l1 l2 M z) := by
  unfold fX1_headOver_J90
  refine s_iinc (v := l2 + 1) (L9 := [some (va_rf l0), some (.int l1), some (.int (l2 + 1)), none]) (pc := 90) hF dX1_headOver_90 rfl rfl (Nat.le_of_ble_eq_true rfl) rfl ?_
  refine s_goto (pc := 93) hF 2 dX1_headOver_93 rfl ?_
  exact SK.sb (hr2 l0 l1 (l2 + 1) M z) ⟨rfl, ⟨rfl, ⟨rfl, trivial⟩⟩⟩

def fX1_headOver_J63 (r2 : Option Nat → Int32 → Int32 → Mp → Nat → Rs Int32) (l0 : Option Nat) (l1 : Int32) (l2 : Int32) (s0 : Int32) (M : Mp) (z : Nat) : Rs Int32 := if s0 = 0 then
  (fX1_headOver_J90 r2 l0 l1 l2 M z)
else
  ((gr M l0 [1] 3).bind fun v1 =>
(ai M 0 v1 l1).bind fun v2 =>
if ckc M l0 [1] = true then
  (cb (fX1_lastRow l0 l2 v2 M z) z fun v3 M4 z5 =>
(gr M4 l0 [1] 5).bind fun v6 =>
(ai M4 0 v6 l1).bind fun v7 =>
if v3 < v7 then
  (fX1_headOver_J90 r2 l0 l1 l2 M4 z5)
else
  (some (l2, M4, 0, 0)))
else none)

theorem gX1_headOver_J63 {G : Cx} {F : Option Value × Mp × Nat}  {r2 : Option Nat → Int32 → Int32 → Mp → Nat → Rs Int32}(hF : FX G cX1_headOver 4 RX1 (Option.some Jvm.ClassFile.FieldType.int) "headOver" 3 74) (hr2 : ∀ l0 l1 l2 M z, SK G F 4 eI 2 [some (va_rf l0), some (.int l1), some (.int l2), none] [] M z (r2 l0 l1 l2 M z)) (l0 : Option Nat) (l1 : Int32) (l2 : Int32) (s0 : Int32) (M : Mp) (z : Nat) : SK G F 4 eI 63 [some (va_rf l0), some (.int l1), some (.int l2), none] [.int s0] M z (fX1_headOver_J63 r2 l0 l1 l2 s0 M z) := by
  unfold fX1_headOver_J63
  refine s_istore_n (L9 := [some (va_rf l0), some (.int l1), some (.int l2), some (.int s0)]) (pc := 63) hF dX1_headOver_63 rfl (Nat.le_of_ble_eq_true rfl) rfl ?_
  refine s_iload_n (pc := 64) hF dX1_headOver_64 rfl rfl ?_
  refine s_if_eq (pc := 65) hF 90 dX1_headOver_65 rfl ?_ ?_
  · exact SK.sb (gX1_headOver_J90 hF hr2 l0 l1 l2 M z) ⟨rfl, ⟨rfl, ⟨rfl, trivial⟩⟩⟩
  · refine s_aload_n (pc := 68) hF dX1_headOver_68 rfl rfl ?_
    refine s_iload_n (pc := 69) hF dX1_headOver_69 rfl rfl ?_
    refine s_aload_n (pc := 70) hF dX1_headOver_70 rfl rfl ?_
    refine s_getr (pc := 71) hF (fl_X1_16 hF) dX1_headOver_71 (fun v1 => ?_)
    refine s_iload_n (pc := 74) hF dX1_headOver_74 rfl rfl ?_
    refine s_iald (pc := 75) hF dX1_headOver_75 (fun v2 => ?_)
    refine s_callV (pc := 76) (As := [.int l2, .int v2]) (st := []) (stf := fun r9 => .int r9 :: []) hF (mX1_lastRow l0 l2 v2) cw_X1_lastRow q1202 q1204 (List.forall_mem_cons.mpr ⟨⟨(RX1, TX1, 34), rfl, qs30⟩, fun _ h9 => absurd h9 List.not_mem_nil⟩) rfl ⟨Nat.le_of_ble_eq_true rfl, Nat.le_of_ble_eq_true rfl⟩ ⟨trivial, Nat.le_of_ble_eq_true rfl⟩ dX1_headOver_76 rfl (fun _ => rfl) (fun v3 M4 z5 => ?_)
    refine s_aload_n (pc := 79) hF dX1_headOver_79 rfl rfl ?_
    refine s_getr (pc := 80) hF (fl_X1_22 hF) dX1_headOver_80 (fun v6 => ?_)
    refine s_iload_n (pc := 83) hF dX1_headOver_83 rfl rfl ?_
    refine s_iald (pc := 84) hF dX1_headOver_84 (fun v7 => ?_)
    refine s_icmp_lt (pc := 85) hF 90 dX1_headOver_85 rfl ?_ ?_
    · exact SK.sb (gX1_headOver_J90 hF hr2 l0 l1 l2 M4 z5) ⟨rfl, ⟨rfl, ⟨rfl, trivial⟩⟩⟩
    · refine s_iload_n (pc := 88) hF dX1_headOver_88 rfl rfl ?_
      exact s_iret (pc := 89) hF dX1_headOver_89

def fX1_headOver_L2 : Nat → Option Nat → Int32 → Int32 → Mp → Nat → Rs Int32
  | 0, _, _, _, _, _ => none
  | fu + 1, l0, l1, l2, M, z => (gi M l0 [1] 0).bind fun v1 =>
if l2 < v1 then
  ((gr M l0 [1] 2).bind fun v2 =>
(ai M 0 v2 l2).bind fun v3 =>
if v3 = 0 then
  ((gr M l0 [1] 1).bind fun v4 =>
(ai M 0 v4 l2).bind fun v5 =>
(gr M l0 [1] 1).bind fun v6 =>
(ai M 0 v6 l1).bind fun v7 =>
if v5 = v7 then
  ((gr M l0 [1] 5).bind fun v8 =>
(ai M 0 v8 l1).bind fun v9 =>
(gr M l0 [1] 6).bind fun v10 =>
(ai M 0 v10 l2).bind fun v11 =>
if v11 < v9 then
  ((gr M l0 [1] 2).bind fun v12 =>
(ai M 0 v12 l1).bind fun v13 =>
if v13 = 0 then
  (fX1_headOver_J63 (fX1_headOver_L2 fu) l0 l1 l2 (0 : Int32) M z)
else
  (fX1_headOver_J63 (fX1_headOver_L2 fu) l0 l1 l2 (1 : Int32) M z))
else
  (fX1_headOver_J63 (fX1_headOver_L2 fu) l0 l1 l2 (0 : Int32) M z))
else
  (fX1_headOver_J63 (fX1_headOver_L2 fu) l0 l1 l2 (0 : Int32) M z))
else
  (fX1_headOver_J63 (fX1_headOver_L2 fu) l0 l1 l2 (0 : Int32) M z))
else
  (some ((-9 : Int32), M, 0, 0))

theorem gX1_headOver_L2 {G : Cx} {F : Option Value × Mp × Nat} (hF : FX G cX1_headOver 4 RX1 (Option.some Jvm.ClassFile.FieldType.int) "headOver" 3 74) : ∀ (fu : Nat) (l0 : Option Nat) (l1 : Int32) (l2 : Int32) (M : Mp) (z : Nat), SK G F 4 eI 2 [some (va_rf l0), some (.int l1), some (.int l2), none] [] M z (fX1_headOver_L2 fu l0 l1 l2 M z) := by
  intro fu
  induction fu with
  | zero => intros; exact SK.fail
  | succ fu ih =>
    intro l0 l1 l2 M z
    rw [fX1_headOver_L2]
    refine s_iload_n (pc := 2) hF dX1_headOver_2 rfl rfl ?_
    refine s_aload_n (pc := 3) hF dX1_headOver_3 rfl rfl ?_
    refine s_geti (pc := 4) hF (fl_X1_98 hF) dX1_headOver_4 (fun v1 => ?_)
    refine s_icmp_ge (pc := 7) hF 96 dX1_headOver_7 rfl ?_ ?_
    · refine s_bipush (pc := 96) hF dX1_headOver_96 (-9 : Int32) (by decide) ?_
      exact s_iret (pc := 98) hF dX1_headOver_98
    · refine s_aload_n (pc := 10) hF dX1_headOver_10 rfl rfl ?_
      refine s_getr (pc := 11) hF (fl_X1_13 hF) dX1_headOver_11 (fun v2 => ?_)
      refine s_iload_n (pc := 14) hF dX1_headOver_14 rfl rfl ?_
      refine s_iald (pc := 15) hF dX1_headOver_15 (fun v3 => ?_)
      refine s_if_ne (pc := 16) hF 62 dX1_headOver_16 rfl ?_ ?_
      · refine s_iconst (pc := 62) hF dX1_headOver_62 (0 : Int32) (by decide) ?_
        exact SK.sb (gX1_headOver_J63 hF ih l0 l1 l2 (0 : Int32) M z) ⟨rfl, ⟨rfl, ⟨rfl, trivial⟩⟩⟩
      · refine s_aload_n (pc := 19) hF dX1_headOver_19 rfl rfl ?_
        refine s_getr (pc := 20) hF (fl_X1_7 hF) dX1_headOver_20 (fun v4 => ?_)
        refine s_iload_n (pc := 23) hF dX1_headOver_23 rfl rfl ?_
        refine s_iald (pc := 24) hF dX1_headOver_24 (fun v5 => ?_)
        refine s_aload_n (pc := 25) hF dX1_headOver_25 rfl rfl ?_
        refine s_getr (pc := 26) hF (fl_X1_7 hF) dX1_headOver_26 (fun v6 => ?_)
        refine s_iload_n (pc := 29) hF dX1_headOver_29 rfl rfl ?_
        refine s_iald (pc := 30) hF dX1_headOver_30 (fun v7 => ?_)
        refine s_icmp_ne (pc := 31) hF 62 dX1_headOver_31 rfl ?_ ?_
        · refine s_iconst (pc := 62) hF dX1_headOver_62 (0 : Int32) (by decide) ?_
          exact SK.sb (gX1_headOver_J63 hF ih l0 l1 l2 (0 : Int32) M z) ⟨rfl, ⟨rfl, ⟨rfl, trivial⟩⟩⟩
        · refine s_aload_n (pc := 34) hF dX1_headOver_34 rfl rfl ?_
          refine s_getr (pc := 35) hF (fl_X1_22 hF) dX1_headOver_35 (fun v8 => ?_)
          refine s_iload_n (pc := 38) hF dX1_headOver_38 rfl rfl ?_
          refine s_iald (pc := 39) hF dX1_headOver_39 (fun v9 => ?_)
          refine s_aload_n (pc := 40) hF dX1_headOver_40 rfl rfl ?_
          refine s_getr (pc := 41) hF (fl_X1_25 hF) dX1_headOver_41 (fun v10 => ?_)
          refine s_iload_n (pc := 44) hF dX1_headOver_44 rfl rfl ?_
          refine s_iald (pc := 45) hF dX1_headOver_45 (fun v11 => ?_)
          refine s_icmp_le (pc := 46) hF 62 dX1_headOver_46 rfl ?_ ?_
          · refine s_iconst (pc := 62) hF dX1_headOver_62 (0 : Int32) (by decide) ?_
            exact SK.sb (gX1_headOver_J63 hF ih l0 l1 l2 (0 : Int32) M z) ⟨rfl, ⟨rfl, ⟨rfl, trivial⟩⟩⟩
          · refine s_aload_n (pc := 49) hF dX1_headOver_49 rfl rfl ?_
            refine s_getr (pc := 50) hF (fl_X1_13 hF) dX1_headOver_50 (fun v12 => ?_)
            refine s_iload_n (pc := 53) hF dX1_headOver_53 rfl rfl ?_
            refine s_iald (pc := 54) hF dX1_headOver_54 (fun v13 => ?_)
            refine s_if_eq (pc := 55) hF 62 dX1_headOver_55 rfl ?_ ?_
            · refine s_iconst (pc := 62) hF dX1_headOver_62 (0 : Int32) (by decide) ?_
              exact SK.sb (gX1_headOver_J63 hF ih l0 l1 l2 (0 : Int32) M z) ⟨rfl, ⟨rfl, ⟨rfl, trivial⟩⟩⟩
            · refine s_iconst (pc := 58) hF dX1_headOver_58 (1 : Int32) (by decide) ?_
              refine s_goto (pc := 59) hF 63 dX1_headOver_59 rfl ?_
              exact SK.sb (gX1_headOver_J63 hF ih l0 l1 l2 (1 : Int32) M z) ⟨rfl, ⟨rfl, ⟨rfl, trivial⟩⟩⟩
def fX1_headOver (a0 : Option Nat) (a1 : Int32) (M : Mp) (z : Nat) : Rs Int32 := fX1_headOver_L2 FU a0 a1 (0 : Int32) M z
theorem gX1_headOver {G : Cx} {F : Option Value × Mp × Nat} (hF : FX G cX1_headOver 4 RX1 (Option.some Jvm.ClassFile.FieldType.int) "headOver" 3 74) (a0 : Option Nat) (a1 : Int32) (M : Mp) (z : Nat) : SK G F 4 eI 0 [some (va_rf a0), some (.int a1), none, none] [] M z (fX1_headOver a0 a1 M z) := by
  unfold fX1_headOver
  refine s_iconst (pc := 0) hF dX1_headOver_0 (0 : Int32) (by decide) ?_
  refine s_istore_n (L9 := [some (va_rf a0), some (.int a1), some (.int (0 : Int32)), none]) (pc := 1) hF dX1_headOver_1 rfl (Nat.le_of_ble_eq_true rfl) rfl ?_
  exact SK.sb (gX1_headOver_L2 hF FU a0 a1 (0 : Int32) M z) ⟨rfl, ⟨rfl, ⟨rfl, trivial⟩⟩⟩
theorem mX1_headOver (a0 : Option Nat) (a1 : Int32) : MT yX1_headOver cX1_headOver 4 (Option.some Jvm.ClassFile.FieldType.int) 3 74 eI [va_rf a0, .int a1] (fX1_headOver a0 a1) :=
  MT.of (L0 := [some (va_rf a0), some (.int a1), none, none]) (by decide) ⟨ct _, ⟨rfl, trivial⟩⟩ (Nat.le_of_ble_eq_true rfl) rfl (fun _ _ hF M z => gX1_headOver hF a0 a1 M z)

theorem cw_X1_headOver : CWm yX1_headOver cX1_headOver 4 (Option.some Jvm.ClassFile.FieldType.int) 1 := ⟨q1221, q63, by decide +kernel, by decide +kernel, by decide +kernel⟩
def fX1_under (a0 : Option Nat) (a1 : Int32) (M : Mp) (z : Nat) : Rs Int32 := if ckc M a0 [1] = true then
  (cb (fX1_isBlock a0 a1 M z) z fun v1 M2 z3 =>
if v1 = 0 then
  (some ((-1 : Int32), M2, 0, 0))
else
  ((gr M2 a0 [1] 2).bind fun v4 =>
(ai M2 0 v4 a1).bind fun v5 =>
if v5 = 0 then
  (some ((-3 : Int32), M2, 0, 0))
else
  (if ckc M2 a0 [1] = true then
  (cb (fX1_headOver a0 a1 M2 z3) z3 fun v6 M7 z8 =>
some (v6, M7, 0, 0))
else none)))
else none
theorem gX1_under {G : Cx} {F : Option Value × Mp × Nat} (hF : FX G cX1_under 2 RX1 (Option.some Jvm.ClassFile.FieldType.int) "under" 4 97) (a0 : Option Nat) (a1 : Int32) (M : Mp) (z : Nat) : SK G F 2 eI 0 [some (va_rf a0), some (.int a1)] [] M z (fX1_under a0 a1 M z) := by
  unfold fX1_under
  refine s_aload_n (pc := 0) hF dX1_under_0 rfl rfl ?_
  refine s_iload_n (pc := 1) hF dX1_under_1 rfl rfl ?_
  refine s_callV (pc := 2) (As := [.int a1]) (st := []) (stf := fun r9 => .int r9 :: []) hF (mX1_isBlock a0 a1) cw_X1_isBlock q1158 q1160 (List.forall_mem_cons.mpr ⟨⟨(RX1, TX1, 34), rfl, qs28⟩, fun _ h9 => absurd h9 List.not_mem_nil⟩) rfl ⟨Nat.le_of_ble_eq_true rfl, Nat.le_of_ble_eq_true rfl⟩ ⟨trivial, Nat.le_of_ble_eq_true rfl⟩ dX1_under_2 rfl (fun _ => rfl) (fun v1 M2 z3 => ?_)
  refine s_if_ne (pc := 5) hF 10 dX1_under_5 rfl ?_ ?_
  · refine s_aload_n (pc := 10) hF dX1_under_10 rfl rfl ?_
    refine s_getr (pc := 11) hF (fl_X1_13 hF) dX1_under_11 (fun v4 => ?_)
    refine s_iload_n (pc := 14) hF dX1_under_14 rfl rfl ?_
    refine s_iald (pc := 15) hF dX1_under_15 (fun v5 => ?_)
    refine s_if_ne (pc := 16) hF 24 dX1_under_16 rfl ?_ ?_
    · refine s_aload_n (pc := 24) hF dX1_under_24 rfl rfl ?_
      refine s_iload_n (pc := 25) hF dX1_under_25 rfl rfl ?_
      refine s_callV (pc := 26) (As := [.int a1]) (st := []) (stf := fun r9 => .int r9 :: []) hF (mX1_headOver a0 a1) cw_X1_headOver q1218 q1220 (List.forall_mem_cons.mpr ⟨⟨(RX1, TX1, 34), rfl, qs33⟩, fun _ h9 => absurd h9 List.not_mem_nil⟩) rfl ⟨Nat.le_of_ble_eq_true rfl, Nat.le_of_ble_eq_true rfl⟩ ⟨trivial, Nat.le_of_ble_eq_true rfl⟩ dX1_under_26 rfl (fun _ => rfl) (fun v6 M7 z8 => ?_)
      exact s_iret (pc := 29) hF dX1_under_29
    · refine s_bipush (pc := 19) hF dX1_under_19 (-3 : Int32) (by decide) ?_
      refine s_goto (pc := 21) hF 29 dX1_under_21 rfl ?_
      exact s_iret (pc := 29) hF dX1_under_29
  · refine s_iconst (pc := 8) hF dX1_under_8 (-1 : Int32) (by decide) ?_
    exact s_iret (pc := 9) hF dX1_under_9
theorem mX1_under (a0 : Option Nat) (a1 : Int32) : MT yX1_under cX1_under 2 (Option.some Jvm.ClassFile.FieldType.int) 4 97 eI [va_rf a0, .int a1] (fX1_under a0 a1) :=
  MT.of (L0 := [some (va_rf a0), some (.int a1)]) (by decide) ⟨ct _, ⟨rfl, trivial⟩⟩ (Nat.le_of_ble_eq_true rfl) rfl (fun _ _ hF M z => gX1_under hF a0 a1 M z)

theorem fl_X1_64 {G : Cx} {nL fr lc : Nat} {cc : ByteArray} {ret : Option FieldType} {nm : String} (hF : FX G cc nL RX1 ret nm fr lc) : ∀ c ∈ [1], GF G RX1 64 c 20 := by
  obtain ⟨⟨p, l, e, R, s, m, args, below, meth, c0⟩, A, D, dA, mi⟩ := G
  obtain ⟨hx, hb, hml, hown, hts, hr, hlk, hK, hnm, hfr, hlc⟩ := hF
  exact List.forall_mem_cons.mpr ⟨⟨RX1, TX1, 34, "StoryColumnsModel", rfl, in_X1, Nat.le_of_ble_eq_true rfl, Or.inl (hts _ q1058), fun _ h => h⟩, fun _ h9 => absurd h9 List.not_mem_nil⟩
theorem fl_X1_61 {G : Cx} {nL fr lc : Nat} {cc : ByteArray} {ret : Option FieldType} {nm : String} (hF : FX G cc nL RX1 ret nm fr lc) : ∀ c ∈ [1], GF G RX1 61 c 19 := by
  obtain ⟨⟨p, l, e, R, s, m, args, below, meth, c0⟩, A, D, dA, mi⟩ := G
  obtain ⟨hx, hb, hml, hown, hts, hr, hlk, hK, hnm, hfr, hlc⟩ := hF
  exact List.forall_mem_cons.mpr ⟨⟨RX1, TX1, 34, "StoryColumnsModel", rfl, in_X1, Nat.le_of_ble_eq_true rfl, Or.inl (hts _ q1057), fun _ h => h⟩, fun _ h9 => absurd h9 List.not_mem_nil⟩
def fX1_comesBehind (a0 : Option Nat) (a1 : Int32) (a2 : Int32) (M : Mp) (z : Nat) : Rs Unit := (gr M a0 [1] 20).bind fun v1 =>
(gr M a0 [1] 19).bind fun v2 =>
(ai M 0 v2 a1).bind fun v3 =>
(si M 0 v1 (((24 : Int32) * a1) + v3) a2).bind fun M4 =>
(gr M4 a0 [1] 19).bind fun v5 =>
(ai M4 0 v5 a1).bind fun v6 =>
(si M4 0 v5 a1 (v6 + (1 : Int32))).bind fun M7 =>
some ((), M7, 0, 0)
theorem gX1_comesBehind {G : Cx} {F : Option Value × Mp × Nat} (hF : FX G cX1_comesBehind 3 RX1 (Option.none : Option Jvm.ClassFile.FieldType) "comesBehind" 0 0) (a0 : Option Nat) (a1 : Int32) (a2 : Int32) (M : Mp) (z : Nat) : SK G F 3 eV 0 [some (va_rf a0), some (.int a1), some (.int a2)] [] M z (fX1_comesBehind a0 a1 a2 M z) := by
  unfold fX1_comesBehind
  refine s_aload_n (pc := 0) hF dX1_comesBehind_0 rfl rfl ?_
  refine s_getr (pc := 1) hF (fl_X1_64 hF) dX1_comesBehind_1 (fun v1 => ?_)
  refine s_bipush (pc := 4) hF dX1_comesBehind_4 (24 : Int32) (by decide) ?_
  refine s_iload_n (pc := 6) hF dX1_comesBehind_6 rfl rfl ?_
  refine s_imul (pc := 7) hF dX1_comesBehind_7 ?_
  refine s_aload_n (pc := 8) hF dX1_comesBehind_8 rfl rfl ?_
  refine s_getr (pc := 9) hF (fl_X1_61 hF) dX1_comesBehind_9 (fun v2 => ?_)
  refine s_iload_n (pc := 12) hF dX1_comesBehind_12 rfl rfl ?_
  refine s_iald (pc := 13) hF dX1_comesBehind_13 (fun v3 => ?_)
  refine s_iadd (pc := 14) hF dX1_comesBehind_14 ?_
  refine s_iload_n (pc := 15) hF dX1_comesBehind_15 rfl rfl ?_
  refine s_iast (pc := 16) hF dX1_comesBehind_16 (fun M4 => ?_)
  refine s_aload_n (pc := 17) hF dX1_comesBehind_17 rfl rfl ?_
  refine s_getr (pc := 18) hF (fl_X1_61 hF) dX1_comesBehind_18 (fun v5 => ?_)
  refine s_iload_n (pc := 21) hF dX1_comesBehind_21 rfl rfl ?_
  refine s_dup2 (pc := 22) hF dX1_comesBehind_22 rfl (ct _) ?_
  refine s_iald (pc := 23) hF dX1_comesBehind_23 (fun v6 => ?_)
  refine s_iconst (pc := 24) hF dX1_comesBehind_24 (1 : Int32) (by decide) ?_
  refine s_iadd (pc := 25) hF dX1_comesBehind_25 ?_
  refine s_iast (pc := 26) hF dX1_comesBehind_26 (fun M7 => ?_)
  exact s_vret (pc := 27) hF dX1_comesBehind_27
theorem mX1_comesBehind (a0 : Option Nat) (a1 : Int32) (a2 : Int32) : MT yX1_comesBehind cX1_comesBehind 3 (Option.none : Option Jvm.ClassFile.FieldType) 0 0 eV [va_rf a0, .int a1, .int a2] (fX1_comesBehind a0 a1 a2) :=
  MT.of (L0 := [some (va_rf a0), some (.int a1), some (.int a2)]) (by decide) ⟨ct _, ⟨rfl, ⟨rfl, trivial⟩⟩⟩ (Nat.le_of_ble_eq_true rfl) rfl (fun _ _ hF M z => gX1_comesBehind hF a0 a1 a2 M z)

def fX1_isAhead (a0 : Option Nat) (a1 : Int32) (a2 : Int32) (M : Mp) (z : Nat) : Rs Int32 := (gr M a0 [1] 3).bind fun v1 =>
(ai M 0 v1 a1).bind fun v2 =>
(gr M a0 [1] 3).bind fun v3 =>
(ai M 0 v3 a2).bind fun v4 =>
if v2 = v4 then
  ((gr M a0 [1] 5).bind fun v5 =>
(ai M 0 v5 a1).bind fun v6 =>
(gr M a0 [1] 5).bind fun v7 =>
(ai M 0 v7 a2).bind fun v8 =>
if v6 < v8 then
  (some ((1 : Int32), M, 0, 0))
else
  (some ((0 : Int32), M, 0, 0)))
else
  ((gr M a0 [1] 3).bind fun v9 =>
(ai M 0 v9 a1).bind fun v10 =>
(gr M a0 [1] 3).bind fun v11 =>
(ai M 0 v11 a2).bind fun v12 =>
if v10 < v12 then
  (some ((1 : Int32), M, 0, 0))
else
  (some ((0 : Int32), M, 0, 0)))
theorem gX1_isAhead {G : Cx} {F : Option Value × Mp × Nat} (hF : FX G cX1_isAhead 3 RX1 (Option.some Jvm.ClassFile.FieldType.boolean) "isAhead" 0 0) (a0 : Option Nat) (a1 : Int32) (a2 : Int32) (M : Mp) (z : Nat) : SK G F 3 eI 0 [some (va_rf a0), some (.int a1), some (.int a2)] [] M z (fX1_isAhead a0 a1 a2 M z) := by
  unfold fX1_isAhead
  refine s_aload_n (pc := 0) hF dX1_isAhead_0 rfl rfl ?_
  refine s_getr (pc := 1) hF (fl_X1_16 hF) dX1_isAhead_1 (fun v1 => ?_)
  refine s_iload_n (pc := 4) hF dX1_isAhead_4 rfl rfl ?_
  refine s_iald (pc := 5) hF dX1_isAhead_5 (fun v2 => ?_)
  refine s_aload_n (pc := 6) hF dX1_isAhead_6 rfl rfl ?_
  refine s_getr (pc := 7) hF (fl_X1_16 hF) dX1_isAhead_7 (fun v3 => ?_)
  refine s_iload_n (pc := 10) hF dX1_isAhead_10 rfl rfl ?_
  refine s_iald (pc := 11) hF dX1_isAhead_11 (fun v4 => ?_)
  refine s_icmp_eq (pc := 12) hF 38 dX1_isAhead_12 rfl ?_ ?_
  · refine s_aload_n (pc := 38) hF dX1_isAhead_38 rfl rfl ?_
    refine s_getr (pc := 39) hF (fl_X1_22 hF) dX1_isAhead_39 (fun v5 => ?_)
    refine s_iload_n (pc := 42) hF dX1_isAhead_42 rfl rfl ?_
    refine s_iald (pc := 43) hF dX1_isAhead_43 (fun v6 => ?_)
    refine s_aload_n (pc := 44) hF dX1_isAhead_44 rfl rfl ?_
    refine s_getr (pc := 45) hF (fl_X1_22 hF) dX1_isAhead_45 (fun v7 => ?_)
    refine s_iload_n (pc := 48) hF dX1_isAhead_48 rfl rfl ?_
    refine s_iald (pc := 49) hF dX1_isAhead_49 (fun v8 => ?_)
    refine s_icmp_ge (pc := 50) hF 57 dX1_isAhead_50 rfl ?_ ?_
    · refine s_iconst (pc := 57) hF dX1_isAhead_57 (0 : Int32) (by decide) ?_
      exact s_zretL (pc := 58) hF dX1_isAhead_58 (by decide)
    · refine s_iconst (pc := 53) hF dX1_isAhead_53 (1 : Int32) (by decide) ?_
      refine s_goto (pc := 54) hF 58 dX1_isAhead_54 rfl ?_
      exact s_zretL (pc := 58) hF dX1_isAhead_58 (by decide)
  · refine s_aload_n (pc := 15) hF dX1_isAhead_15 rfl rfl ?_
    refine s_getr (pc := 16) hF (fl_X1_16 hF) dX1_isAhead_16 (fun v9 => ?_)
    refine s_iload_n (pc := 19) hF dX1_isAhead_19 rfl rfl ?_
    refine s_iald (pc := 20) hF dX1_isAhead_20 (fun v10 => ?_)
    refine s_aload_n (pc := 21) hF dX1_isAhead_21 rfl rfl ?_
    refine s_getr (pc := 22) hF (fl_X1_16 hF) dX1_isAhead_22 (fun v11 => ?_)
    refine s_iload_n (pc := 25) hF dX1_isAhead_25 rfl rfl ?_
    refine s_iald (pc := 26) hF dX1_isAhead_26 (fun v12 => ?_)
    refine s_icmp_ge (pc := 27) hF 34 dX1_isAhead_27 rfl ?_ ?_
    · refine s_iconst (pc := 34) hF dX1_isAhead_34 (0 : Int32) (by decide) ?_
      refine s_goto (pc := 35) hF 58 dX1_isAhead_35 rfl ?_
      exact s_zretL (pc := 58) hF dX1_isAhead_58 (by decide)
    · refine s_iconst (pc := 30) hF dX1_isAhead_30 (1 : Int32) (by decide) ?_
      refine s_goto (pc := 31) hF 58 dX1_isAhead_31 rfl ?_
      exact s_zretL (pc := 58) hF dX1_isAhead_58 (by decide)
theorem mX1_isAhead (a0 : Option Nat) (a1 : Int32) (a2 : Int32) : MT yX1_isAhead cX1_isAhead 3 (Option.some Jvm.ClassFile.FieldType.boolean) 0 0 eI [va_rf a0, .int a1, .int a2] (fX1_isAhead a0 a1 a2) :=
  MT.of (L0 := [some (va_rf a0), some (.int a1), some (.int a2)]) (by decide) ⟨ct _, ⟨rfl, ⟨rfl, trivial⟩⟩⟩ (Nat.le_of_ble_eq_true rfl) rfl (fun _ _ hF M z => gX1_isAhead hF a0 a1 a2 M z)

theorem cw_X1_isAhead : CWm yX1_isAhead cX1_isAhead 3 (Option.some Jvm.ClassFile.FieldType.boolean) 2 := ⟨q1241, q63, by decide +kernel, by decide +kernel, by decide +kernel⟩
theorem cw_X1_comesBehind : CWm yX1_comesBehind cX1_comesBehind 3 (Option.none : Option Jvm.ClassFile.FieldType) 2 := ⟨q1237, q63, by decide +kernel, by decide +kernel, by decide +kernel⟩
def fX1_comesUnder_L15 : Nat → Option Nat → Int32 → Int32 → Int32 → Mp → Nat → Rs Unit
  | 0, _, _, _, _, _, _ => none
  | fu + 1, l0, l1, l2, l3, M, z => if 0 < l3 then
  ((gr M l0 [1] 20).bind fun v1 =>
(ai M 0 v1 ((((24 : Int32) * l1) + l3) - (1 : Int32))).bind fun v2 =>
if ckc M l0 [1] = true then
  (cb (fX1_isAhead l0 l2 v2 M z) z fun v3 M4 z5 =>
if v3 = 0 then
  (some ((), M4, 0, 0))
else
  ((gr M4 l0 [1] 20).bind fun v6 =>
(gr M4 l0 [1] 20).bind fun v7 =>
(ai M4 0 v7 ((((24 : Int32) * l1) + l3) - (1 : Int32))).bind fun v8 =>
(si M4 0 v6 (((24 : Int32) * l1) + l3) v8).bind fun M9 =>
(gr M9 l0 [1] 20).bind fun v10 =>
(si M9 0 v10 ((((24 : Int32) * l1) + l3) - (1 : Int32)) l2).bind fun M11 =>
fX1_comesUnder_L15 fu l0 l1 l2 (l3 + (-1)) M11 z5))
else none)
else
  (some ((), M, 0, 0))

theorem gX1_comesUnder_L15 {G : Cx} {F : Option Value × Mp × Nat} (hF : FX G cX1_comesUnder 4 RX1 (Option.none : Option Jvm.ClassFile.FieldType) "comesUnder" 1 22) : ∀ (fu : Nat) (l0 : Option Nat) (l1 : Int32) (l2 : Int32) (l3 : Int32) (M : Mp) (z : Nat), SK G F 4 eV 15 [some (va_rf l0), some (.int l1), some (.int l2), some (.int l3)] [] M z (fX1_comesUnder_L15 fu l0 l1 l2 l3 M z) := by
  intro fu
  induction fu with
  | zero => intros; exact SK.fail
  | succ fu ih =>
    intro l0 l1 l2 l3 M z
    rw [fX1_comesUnder_L15]
    refine s_iload_n (pc := 15) hF dX1_comesUnder_15 rfl rfl ?_
    refine s_if_le (pc := 16) hF 84 dX1_comesUnder_16 rfl ?_ ?_
    · exact s_vret (pc := 84) hF dX1_comesUnder_84
    · refine s_aload_n (pc := 19) hF dX1_comesUnder_19 rfl rfl ?_
      refine s_iload_n (pc := 20) hF dX1_comesUnder_20 rfl rfl ?_
      refine s_aload_n (pc := 21) hF dX1_comesUnder_21 rfl rfl ?_
      refine s_getr (pc := 22) hF (fl_X1_64 hF) dX1_comesUnder_22 (fun v1 => ?_)
      refine s_bipush (pc := 25) hF dX1_comesUnder_25 (24 : Int32) (by decide) ?_
      refine s_iload_n (pc := 27) hF dX1_comesUnder_27 rfl rfl ?_
      refine s_imul (pc := 28) hF dX1_comesUnder_28 ?_
      refine s_iload_n (pc := 29) hF dX1_comesUnder_29 rfl rfl ?_
      refine s_iadd (pc := 30) hF dX1_comesUnder_30 ?_
      refine s_iconst (pc := 31) hF dX1_comesUnder_31 (1 : Int32) (by decide) ?_
      refine s_isub (pc := 32) hF dX1_comesUnder_32 ?_
      refine s_iald (pc := 33) hF dX1_comesUnder_33 (fun v2 => ?_)
      refine s_callV (pc := 34) (As := [.int l2, .int v2]) (st := []) (stf := fun r9 => .int r9 :: []) hF (mX1_isAhead l0 l2 v2) cw_X1_isAhead q1238 q1240 (List.forall_mem_cons.mpr ⟨⟨(RX1, TX1, 34), rfl, qs37⟩, fun _ h9 => absurd h9 List.not_mem_nil⟩) rfl ⟨Nat.le_of_ble_eq_true rfl, Nat.le_of_ble_eq_true rfl⟩ ⟨trivial, Nat.le_of_ble_eq_true rfl⟩ dX1_comesUnder_34 rfl (fun _ => rfl) (fun v3 M4 z5 => ?_)
      refine s_if_eq (pc := 37) hF 84 dX1_comesUnder_37 rfl ?_ ?_
      · exact s_vret (pc := 84) hF dX1_comesUnder_84
      · refine s_aload_n (pc := 40) hF dX1_comesUnder_40 rfl rfl ?_
        refine s_getr (pc := 41) hF (fl_X1_64 hF) dX1_comesUnder_41 (fun v6 => ?_)
        refine s_bipush (pc := 44) hF dX1_comesUnder_44 (24 : Int32) (by decide) ?_
        refine s_iload_n (pc := 46) hF dX1_comesUnder_46 rfl rfl ?_
        refine s_imul (pc := 47) hF dX1_comesUnder_47 ?_
        refine s_iload_n (pc := 48) hF dX1_comesUnder_48 rfl rfl ?_
        refine s_iadd (pc := 49) hF dX1_comesUnder_49 ?_
        refine s_aload_n (pc := 50) hF dX1_comesUnder_50 rfl rfl ?_
        refine s_getr (pc := 51) hF (fl_X1_64 hF) dX1_comesUnder_51 (fun v7 => ?_)
        refine s_bipush (pc := 54) hF dX1_comesUnder_54 (24 : Int32) (by decide) ?_
        refine s_iload_n (pc := 56) hF dX1_comesUnder_56 rfl rfl ?_
        refine s_imul (pc := 57) hF dX1_comesUnder_57 ?_
        refine s_iload_n (pc := 58) hF dX1_comesUnder_58 rfl rfl ?_
        refine s_iadd (pc := 59) hF dX1_comesUnder_59 ?_
        refine s_iconst (pc := 60) hF dX1_comesUnder_60 (1 : Int32) (by decide) ?_
        refine s_isub (pc := 61) hF dX1_comesUnder_61 ?_
        refine s_iald (pc := 62) hF dX1_comesUnder_62 (fun v8 => ?_)
        refine s_iast (pc := 63) hF dX1_comesUnder_63 (fun M9 => ?_)
        refine s_aload_n (pc := 64) hF dX1_comesUnder_64 rfl rfl ?_
        refine s_getr (pc := 65) hF (fl_X1_64 hF) dX1_comesUnder_65 (fun v10 => ?_)
        refine s_bipush (pc := 68) hF dX1_comesUnder_68 (24 : Int32) (by decide) ?_
        refine s_iload_n (pc := 70) hF dX1_comesUnder_70 rfl rfl ?_
        refine s_imul (pc := 71) hF dX1_comesUnder_71 ?_
        refine s_iload_n (pc := 72) hF dX1_comesUnder_72 rfl rfl ?_
        refine s_iadd (pc := 73) hF dX1_comesUnder_73 ?_
        refine s_iconst (pc := 74) hF dX1_comesUnder_74 (1 : Int32) (by decide) ?_
        refine s_isub (pc := 75) hF dX1_comesUnder_75 ?_
        refine s_iload_n (pc := 76) hF dX1_comesUnder_76 rfl rfl ?_
        refine s_iast (pc := 77) hF dX1_comesUnder_77 (fun M11 => ?_)
        refine s_iinc (v := l3 + (-1)) (L9 := [some (va_rf l0), some (.int l1), some (.int l2), some (.int (l3 + (-1)))]) (pc := 78) hF dX1_comesUnder_78 rfl rfl (Nat.le_of_ble_eq_true rfl) rfl ?_
        refine s_goto (pc := 81) hF 15 dX1_comesUnder_81 rfl ?_
        exact SK.sb (ih l0 l1 l2 (l3 + (-1)) M11 z5) ⟨rfl, ⟨rfl, ⟨rfl, ⟨rfl, trivial⟩⟩⟩⟩
def fX1_comesUnder (a0 : Option Nat) (a1 : Int32) (a2 : Int32) (M : Mp) (z : Nat) : Rs Unit := if ckc M a0 [1] = true then
  (cb (fX1_comesBehind a0 a1 a2 M z) z fun _ M2 z3 =>
(gr M2 a0 [1] 19).bind fun v4 =>
(ai M2 0 v4 a1).bind fun v5 =>
fX1_comesUnder_L15 FU a0 a1 a2 (v5 - (1 : Int32)) M2 z3)
else none
theorem gX1_comesUnder {G : Cx} {F : Option Value × Mp × Nat} (hF : FX G cX1_comesUnder 4 RX1 (Option.none : Option Jvm.ClassFile.FieldType) "comesUnder" 1 22) (a0 : Option Nat) (a1 : Int32) (a2 : Int32) (M : Mp) (z : Nat) : SK G F 4 eV 0 [some (va_rf a0), some (.int a1), some (.int a2), none] [] M z (fX1_comesUnder a0 a1 a2 M z) := by
  unfold fX1_comesUnder
  refine s_aload_n (pc := 0) hF dX1_comesUnder_0 rfl rfl ?_
  refine s_iload_n (pc := 1) hF dX1_comesUnder_1 rfl rfl ?_
  refine s_iload_n (pc := 2) hF dX1_comesUnder_2 rfl rfl ?_
  refine s_callV (pc := 3) (As := [.int a1, .int a2]) (st := []) (stf := fun r9 => []) hF (mX1_comesBehind a0 a1 a2) cw_X1_comesBehind q1234 q1236 (List.forall_mem_cons.mpr ⟨⟨(RX1, TX1, 34), rfl, qs36⟩, fun _ h9 => absurd h9 List.not_mem_nil⟩) rfl ⟨Nat.le_of_ble_eq_true rfl, Nat.le_of_ble_eq_true rfl⟩ ⟨trivial, Nat.le_of_ble_eq_true rfl⟩ dX1_comesUnder_3 rfl (fun _ => rfl) (fun v1 M2 z3 => ?_)
  refine s_aload_n (pc := 6) hF dX1_comesUnder_6 rfl rfl ?_
  refine s_getr (pc := 7) hF (fl_X1_61 hF) dX1_comesUnder_7 (fun v4 => ?_)
  refine s_iload_n (pc := 10) hF dX1_comesUnder_10 rfl rfl ?_
  refine s_iald (pc := 11) hF dX1_comesUnder_11 (fun v5 => ?_)
  refine s_iconst (pc := 12) hF dX1_comesUnder_12 (1 : Int32) (by decide) ?_
  refine s_isub (pc := 13) hF dX1_comesUnder_13 ?_
  refine s_istore_n (L9 := [some (va_rf a0), some (.int a1), some (.int a2), some (.int (v5 - (1 : Int32)))]) (pc := 14) hF dX1_comesUnder_14 rfl (Nat.le_of_ble_eq_true rfl) rfl ?_
  exact SK.sb (gX1_comesUnder_L15 hF FU a0 a1 a2 (v5 - (1 : Int32)) M2 z3) ⟨rfl, ⟨rfl, ⟨rfl, ⟨rfl, trivial⟩⟩⟩⟩
theorem mX1_comesUnder (a0 : Option Nat) (a1 : Int32) (a2 : Int32) : MT yX1_comesUnder cX1_comesUnder 4 (Option.none : Option Jvm.ClassFile.FieldType) 1 22 eV [va_rf a0, .int a1, .int a2] (fX1_comesUnder a0 a1 a2) :=
  MT.of (L0 := [some (va_rf a0), some (.int a1), some (.int a2), none]) (by decide) ⟨ct _, ⟨rfl, ⟨rfl, trivial⟩⟩⟩ (Nat.le_of_ble_eq_true rfl) rfl (fun _ _ hF M z => gX1_comesUnder hF a0 a1 a2 M z)

theorem fl_X1_55 {G : Cx} {nL fr lc : Nat} {cc : ByteArray} {ret : Option FieldType} {nm : String} (hF : FX G cc nL RX1 ret nm fr lc) : ∀ c ∈ [1], GF G RX1 55 c 17 := by
  obtain ⟨⟨p, l, e, R, s, m, args, below, meth, c0⟩, A, D, dA, mi⟩ := G
  obtain ⟨hx, hb, hml, hown, hts, hr, hlk, hK, hnm, hfr, hlc⟩ := hF
  exact List.forall_mem_cons.mpr ⟨⟨RX1, TX1, 34, "StoryColumnsModel", rfl, in_X1, Nat.le_of_ble_eq_true rfl, Or.inl (hts _ q1055), fun _ h => h⟩, fun _ h9 => absurd h9 List.not_mem_nil⟩
def fX1_takes_J116 (l0 : Option Nat) (l2 : Int32) (l3 : Int32) (s0 : Int32) (M : Mp) (z : Nat) : Rs Int32 := if s0 < l3 then
  (some ((0 : Int32), M, 0, 0))
else
  ((gr M l0 [1] 1).bind fun v1 =>
(ai M 0 v1 l2).bind fun v2 =>
(gr M l0 [1] 3).bind fun v3 =>
(ai M 0 v3 l2).bind fun v4 =>
if ckc M l0 [1] = true then
  (cb (fX1_isUpright l0 v2 v4 l3 s0 M z) z fun v5 M6 z7 =>
if v5 = 0 then
  (some ((1 : Int32), M6, 0, 0))
else
  (some ((0 : Int32), M6, 0, 0)))
else none)

theorem gX1_takes_J116 {G : Cx} {F : Option Value × Mp × Nat} (hF : FX G cX1_takes 5 RX1 (Option.some Jvm.ClassFile.FieldType.boolean) "takes" 1 25) (l0 : Option Nat) (l2 : Int32) (l3 : Int32) (s0 : Int32) (M : Mp) (z : Nat) : SK G F 5 eI 116 [some (va_rf l0), none, some (.int l2), some (.int l3), none] [.int s0] M z (fX1_takes_J116 l0 l2 l3 s0 M z) := by
  unfold fX1_takes_J116
  refine s_istore (L9 := [some (va_rf l0), none, some (.int l2), some (.int l3), some (.int s0)]) (pc := 116) hF dX1_takes_116 (Nat.le_of_ble_eq_true rfl) rfl ?_
  refine s_iload_n (pc := 118) hF dX1_takes_118 rfl rfl ?_
  refine s_iload (pc := 119) hF dX1_takes_119 rfl ?_
  refine s_icmp_gt (pc := 121) hF 150 dX1_takes_121 rfl ?_ ?_
  · refine s_iconst (pc := 150) hF dX1_takes_150 (0 : Int32) (by decide) ?_
    exact s_zretL (pc := 151) hF dX1_takes_151 (by decide)
  · refine s_aload_n (pc := 124) hF dX1_takes_124 rfl rfl ?_
    refine s_aload_n (pc := 125) hF dX1_takes_125 rfl rfl ?_
    refine s_getr (pc := 126) hF (fl_X1_7 hF) dX1_takes_126 (fun v1 => ?_)
    refine s_iload_n (pc := 129) hF dX1_takes_129 rfl rfl ?_
    refine s_iald (pc := 130) hF dX1_takes_130 (fun v2 => ?_)
    refine s_aload_n (pc := 131) hF dX1_takes_131 rfl rfl ?_
    refine s_getr (pc := 132) hF (fl_X1_16 hF) dX1_takes_132 (fun v3 => ?_)
    refine s_iload_n (pc := 135) hF dX1_takes_135 rfl rfl ?_
    refine s_iald (pc := 136) hF dX1_takes_136 (fun v4 => ?_)
    refine s_iload_n (pc := 137) hF dX1_takes_137 rfl rfl ?_
    refine s_iload (pc := 138) hF dX1_takes_138 rfl ?_
    refine s_callV (pc := 140) (As := [.int v2, .int v4, .int l3, .int s0]) (st := []) (stf := fun r9 => .int r9 :: []) hF (mX1_isUpright l0 v2 v4 l3 s0) cw_X1_isUpright q1210 q1212 (List.forall_mem_cons.mpr ⟨⟨(RX1, TX1, 34), rfl, qs32⟩, fun _ h9 => absurd h9 List.not_mem_nil⟩) rfl ⟨Nat.le_of_ble_eq_true rfl, Nat.le_of_ble_eq_true rfl⟩ ⟨trivial, Nat.le_of_ble_eq_true rfl⟩ dX1_takes_140 rfl (fun _ => rfl) (fun v5 M6 z7 => ?_)
    refine s_if_ne (pc := 143) hF 150 dX1_takes_143 rfl ?_ ?_
    · refine s_iconst (pc := 150) hF dX1_takes_150 (0 : Int32) (by decide) ?_
      exact s_zretL (pc := 151) hF dX1_takes_151 (by decide)
    · refine s_iconst (pc := 146) hF dX1_takes_146 (1 : Int32) (by decide) ?_
      refine s_goto (pc := 147) hF 151 dX1_takes_147 rfl ?_
      exact s_zretL (pc := 151) hF dX1_takes_151 (by decide)

def fX1_takes_J85 (l0 : Option Nat) (l1 : Int32) (l2 : Int32) (s0 : Int32) (M : Mp) (z : Nat) : Rs Int32 := (gr M l0 [1] 6).bind fun v1 =>
(ai M 0 v1 l2).bind fun v2 =>
(gr M l0 [1] 6).bind fun v3 =>
(ai M 0 v3 l1).bind fun v4 =>
if v2 < v4 then
  ((gr M l0 [1] 6).bind fun v7 =>
(ai M 0 v7 l2).bind fun v8 =>
fX1_takes_J116 l0 l2 s0 v8 M z)
else
  ((gr M l0 [1] 6).bind fun v5 =>
(ai M 0 v5 l1).bind fun v6 =>
fX1_takes_J116 l0 l2 s0 v6 M z)

theorem gX1_takes_J85 {G : Cx} {F : Option Value × Mp × Nat} (hF : FX G cX1_takes 5 RX1 (Option.some Jvm.ClassFile.FieldType.boolean) "takes" 1 25) (l0 : Option Nat) (l1 : Int32) (l2 : Int32) (s0 : Int32) (M : Mp) (z : Nat) : SK G F 5 eI 85 [some (va_rf l0), some (.int l1), some (.int l2), none, none] [.int s0] M z (fX1_takes_J85 l0 l1 l2 s0 M z) := by
  unfold fX1_takes_J85
  refine s_istore_n (L9 := [some (va_rf l0), some (.int l1), some (.int l2), some (.int s0), none]) (pc := 85) hF dX1_takes_85 rfl (Nat.le_of_ble_eq_true rfl) rfl ?_
  refine s_aload_n (pc := 86) hF dX1_takes_86 rfl rfl ?_
  refine s_getr (pc := 87) hF (fl_X1_25 hF) dX1_takes_87 (fun v1 => ?_)
  refine s_iload_n (pc := 90) hF dX1_takes_90 rfl rfl ?_
  refine s_iald (pc := 91) hF dX1_takes_91 (fun v2 => ?_)
  refine s_aload_n (pc := 92) hF dX1_takes_92 rfl rfl ?_
  refine s_getr (pc := 93) hF (fl_X1_25 hF) dX1_takes_93 (fun v3 => ?_)
  refine s_iload_n (pc := 96) hF dX1_takes_96 rfl rfl ?_
  refine s_iald (pc := 97) hF dX1_takes_97 (fun v4 => ?_)
  refine s_icmp_ge (pc := 98) hF 110 dX1_takes_98 rfl ?_ ?_
  · refine s_aload_n (pc := 110) hF dX1_takes_110 rfl rfl ?_
    refine s_getr (pc := 111) hF (fl_X1_25 hF) dX1_takes_111 (fun v5 => ?_)
    refine s_iload_n (pc := 114) hF dX1_takes_114 rfl rfl ?_
    refine s_iald (pc := 115) hF dX1_takes_115 (fun v6 => ?_)
    exact SK.sb (gX1_takes_J116 hF l0 l2 s0 v6 M z) ⟨rfl, ⟨rfl, ⟨rfl, trivial⟩⟩⟩
  · refine s_aload_n (pc := 101) hF dX1_takes_101 rfl rfl ?_
    refine s_getr (pc := 102) hF (fl_X1_25 hF) dX1_takes_102 (fun v7 => ?_)
    refine s_iload_n (pc := 105) hF dX1_takes_105 rfl rfl ?_
    refine s_iald (pc := 106) hF dX1_takes_106 (fun v8 => ?_)
    refine s_goto (pc := 107) hF 116 dX1_takes_107 rfl ?_
    exact SK.sb (gX1_takes_J116 hF l0 l2 s0 v8 M z) ⟨rfl, ⟨rfl, ⟨rfl, trivial⟩⟩⟩
def fX1_takes (a0 : Option Nat) (a1 : Int32) (a2 : Int32) (M : Mp) (z : Nat) : Rs Int32 := (gr M a0 [1] 2).bind fun v1 =>
(ai M 0 v1 a1).bind fun v2 =>
if v2 = (1 : Int32) then
  ((gr M a0 [1] 17).bind fun v3 =>
(ai M 0 v3 a1).bind fun v4 =>
if v4 = (-9 : Int32) then
  (some ((0 : Int32), M, 0, 0))
else
  ((gr M a0 [1] 1).bind fun v5 =>
(ai M 0 v5 a1).bind fun v6 =>
(gr M a0 [1] 1).bind fun v7 =>
(ai M 0 v7 a2).bind fun v8 =>
if v6 = v8 then
  ((gr M a0 [1] 4).bind fun v9 =>
(ai M 0 v9 a1).bind fun v10 =>
(gr M a0 [1] 3).bind fun v11 =>
(ai M 0 v11 a2).bind fun v12 =>
if v10 = (v12 - (1 : Int32)) then
  ((gr M a0 [1] 5).bind fun v13 =>
(ai M 0 v13 a2).bind fun v14 =>
(gr M a0 [1] 5).bind fun v15 =>
(ai M 0 v15 a1).bind fun v16 =>
if v16 < v14 then
  ((gr M a0 [1] 5).bind fun v19 =>
(ai M 0 v19 a2).bind fun v20 =>
fX1_takes_J85 a0 a1 a2 v20 M z)
else
  ((gr M a0 [1] 5).bind fun v17 =>
(ai M 0 v17 a1).bind fun v18 =>
fX1_takes_J85 a0 a1 a2 v18 M z))
else
  (some ((0 : Int32), M, 0, 0)))
else
  (some ((0 : Int32), M, 0, 0))))
else
  (some ((0 : Int32), M, 0, 0))
theorem gX1_takes {G : Cx} {F : Option Value × Mp × Nat} (hF : FX G cX1_takes 5 RX1 (Option.some Jvm.ClassFile.FieldType.boolean) "takes" 1 25) (a0 : Option Nat) (a1 : Int32) (a2 : Int32) (M : Mp) (z : Nat) : SK G F 5 eI 0 [some (va_rf a0), some (.int a1), some (.int a2), none, none] [] M z (fX1_takes a0 a1 a2 M z) := by
  unfold fX1_takes
  refine s_aload_n (pc := 0) hF dX1_takes_0 rfl rfl ?_
  refine s_getr (pc := 1) hF (fl_X1_13 hF) dX1_takes_1 (fun v1 => ?_)
  refine s_iload_n (pc := 4) hF dX1_takes_4 rfl rfl ?_
  refine s_iald (pc := 5) hF dX1_takes_5 (fun v2 => ?_)
  refine s_iconst (pc := 6) hF dX1_takes_6 (1 : Int32) (by decide) ?_
  refine s_icmp_ne (pc := 7) hF 53 dX1_takes_7 rfl ?_ ?_
  · refine s_iconst (pc := 53) hF dX1_takes_53 (0 : Int32) (by decide) ?_
    exact s_zretL (pc := 54) hF dX1_takes_54 (by decide)
  · refine s_aload_n (pc := 10) hF dX1_takes_10 rfl rfl ?_
    refine s_getr (pc := 11) hF (fl_X1_55 hF) dX1_takes_11 (fun v3 => ?_)
    refine s_iload_n (pc := 14) hF dX1_takes_14 rfl rfl ?_
    refine s_iald (pc := 15) hF dX1_takes_15 (fun v4 => ?_)
    refine s_bipush (pc := 16) hF dX1_takes_16 (-9 : Int32) (by decide) ?_
    refine s_icmp_eq (pc := 18) hF 53 dX1_takes_18 rfl ?_ ?_
    · refine s_iconst (pc := 53) hF dX1_takes_53 (0 : Int32) (by decide) ?_
      exact s_zretL (pc := 54) hF dX1_takes_54 (by decide)
    · refine s_aload_n (pc := 21) hF dX1_takes_21 rfl rfl ?_
      refine s_getr (pc := 22) hF (fl_X1_7 hF) dX1_takes_22 (fun v5 => ?_)
      refine s_iload_n (pc := 25) hF dX1_takes_25 rfl rfl ?_
      refine s_iald (pc := 26) hF dX1_takes_26 (fun v6 => ?_)
      refine s_aload_n (pc := 27) hF dX1_takes_27 rfl rfl ?_
      refine s_getr (pc := 28) hF (fl_X1_7 hF) dX1_takes_28 (fun v7 => ?_)
      refine s_iload_n (pc := 31) hF dX1_takes_31 rfl rfl ?_
      refine s_iald (pc := 32) hF dX1_takes_32 (fun v8 => ?_)
      refine s_icmp_ne (pc := 33) hF 53 dX1_takes_33 rfl ?_ ?_
      · refine s_iconst (pc := 53) hF dX1_takes_53 (0 : Int32) (by decide) ?_
        exact s_zretL (pc := 54) hF dX1_takes_54 (by decide)
      · refine s_aload_n (pc := 36) hF dX1_takes_36 rfl rfl ?_
        refine s_getr (pc := 37) hF (fl_X1_19 hF) dX1_takes_37 (fun v9 => ?_)
        refine s_iload_n (pc := 40) hF dX1_takes_40 rfl rfl ?_
        refine s_iald (pc := 41) hF dX1_takes_41 (fun v10 => ?_)
        refine s_aload_n (pc := 42) hF dX1_takes_42 rfl rfl ?_
        refine s_getr (pc := 43) hF (fl_X1_16 hF) dX1_takes_43 (fun v11 => ?_)
        refine s_iload_n (pc := 46) hF dX1_takes_46 rfl rfl ?_
        refine s_iald (pc := 47) hF dX1_takes_47 (fun v12 => ?_)
        refine s_iconst (pc := 48) hF dX1_takes_48 (1 : Int32) (by decide) ?_
        refine s_isub (pc := 49) hF dX1_takes_49 ?_
        refine s_icmp_eq (pc := 50) hF 55 dX1_takes_50 rfl ?_ ?_
        · refine s_aload_n (pc := 55) hF dX1_takes_55 rfl rfl ?_
          refine s_getr (pc := 56) hF (fl_X1_22 hF) dX1_takes_56 (fun v13 => ?_)
          refine s_iload_n (pc := 59) hF dX1_takes_59 rfl rfl ?_
          refine s_iald (pc := 60) hF dX1_takes_60 (fun v14 => ?_)
          refine s_aload_n (pc := 61) hF dX1_takes_61 rfl rfl ?_
          refine s_getr (pc := 62) hF (fl_X1_22 hF) dX1_takes_62 (fun v15 => ?_)
          refine s_iload_n (pc := 65) hF dX1_takes_65 rfl rfl ?_
          refine s_iald (pc := 66) hF dX1_takes_66 (fun v16 => ?_)
          refine s_icmp_le (pc := 67) hF 79 dX1_takes_67 rfl ?_ ?_
          · refine s_aload_n (pc := 79) hF dX1_takes_79 rfl rfl ?_
            refine s_getr (pc := 80) hF (fl_X1_22 hF) dX1_takes_80 (fun v17 => ?_)
            refine s_iload_n (pc := 83) hF dX1_takes_83 rfl rfl ?_
            refine s_iald (pc := 84) hF dX1_takes_84 (fun v18 => ?_)
            exact SK.sb (gX1_takes_J85 hF a0 a1 a2 v18 M z) ⟨rfl, ⟨rfl, ⟨rfl, trivial⟩⟩⟩
          · refine s_aload_n (pc := 70) hF dX1_takes_70 rfl rfl ?_
            refine s_getr (pc := 71) hF (fl_X1_22 hF) dX1_takes_71 (fun v19 => ?_)
            refine s_iload_n (pc := 74) hF dX1_takes_74 rfl rfl ?_
            refine s_iald (pc := 75) hF dX1_takes_75 (fun v20 => ?_)
            refine s_goto (pc := 76) hF 85 dX1_takes_76 rfl ?_
            exact SK.sb (gX1_takes_J85 hF a0 a1 a2 v20 M z) ⟨rfl, ⟨rfl, ⟨rfl, trivial⟩⟩⟩
        · refine s_iconst (pc := 53) hF dX1_takes_53 (0 : Int32) (by decide) ?_
          exact s_zretL (pc := 54) hF dX1_takes_54 (by decide)
theorem mX1_takes (a0 : Option Nat) (a1 : Int32) (a2 : Int32) : MT yX1_takes cX1_takes 5 (Option.some Jvm.ClassFile.FieldType.boolean) 1 25 eI [va_rf a0, .int a1, .int a2] (fX1_takes a0 a1 a2) :=
  MT.of (L0 := [some (va_rf a0), some (.int a1), some (.int a2), none, none]) (by decide) ⟨ct _, ⟨rfl, ⟨rfl, trivial⟩⟩⟩ (Nat.le_of_ble_eq_true rfl) rfl (fun _ _ hF M z => gX1_takes hF a0 a1 a2 M z)

theorem cw_X1_takes : CWm yX1_takes cX1_takes 5 (Option.some Jvm.ClassFile.FieldType.boolean) 2 := ⟨q1253, q63, by decide +kernel, by decide +kernel, by decide +kernel⟩
def fX1_takerNow_J48 (r5 : Option Nat → Int32 → Int32 → Int32 → Mp → Nat → Rs Int32) (l0 : Option Nat) (l1 : Int32) (l3 : Int32) (s0 : Int32) (M : Mp) (z : Nat) : Rs Int32 := r5 l0 l1 s0 (l3 + 1) M z

theorem gX1_takerNow_J48 {G : Cx} {F : Option Value × Mp × Nat}  {r5 : Option Nat → Int32 → Int32 → Int32 → Mp → Nat → Rs Int32}(hF : FX G cX1_takerNow 4 RX1 (Option.some Jvm.ClassFile.FieldType.int) "takerNow" 2 49) (hr5 : ∀ l0 l1 l2 l3 M z, SK G F 4 eI 5 [some (va_rf l0), some (.int l1), some (.int l2), some (.int l3)] [] M z (r5 l0 l1 l2 l3 M z)) (l0 : Option Nat) (l1 : Int32) (l3 : Int32) (s0 : Int32) (M : Mp) (z : Nat) : SK G F 4 eI 48 [some (va_rf l0), some (.int l1), none, some (.int l3)] [.int s0] M z (fX1_takerNow_J48 r5 l0 l1 l3 s0 M z) := by
  unfold fX1_takerNow_J48
  refine s_istore_n (L9 := [some (va_rf l0), some (.int l1), some (.int s0), some (.int l3)]) (pc := 48) hF dX1_takerNow_48 rfl (Nat.le_of_ble_eq_true rfl) rfl ?_
  refine s_iinc (v := l3 + 1) (L9 := [some (va_rf l0), some (.int l1), some (.int s0), some (.int (l3 + 1))]) (pc := 49) hF dX1_takerNow_49 rfl rfl (Nat.le_of_ble_eq_true rfl) rfl ?_
  refine s_goto (pc := 52) hF 5 dX1_takerNow_52 rfl ?_
  exact SK.sb (hr5 l0 l1 s0 (l3 + 1) M z) ⟨rfl, ⟨rfl, ⟨rfl, ⟨rfl, trivial⟩⟩⟩⟩

def fX1_takerNow_L5 : Nat → Option Nat → Int32 → Int32 → Int32 → Mp → Nat → Rs Int32
  | 0, _, _, _, _, _, _ => none
  | fu + 1, l0, l1, l2, l3, M, z => (gi M l0 [1] 0).bind fun v1 =>
if l3 < v1 then
  (if ckc M l0 [1] = true then
  (cb (fX1_takes l0 l3 l1 M z) z fun v2 M3 z4 =>
if v2 = 0 then
  (fX1_takerNow_J48 (fX1_takerNow_L5 fu) l0 l1 l3 l2 M3 z4)
else
  (if l2 = (-9 : Int32) then
  (fX1_takerNow_J48 (fX1_takerNow_L5 fu) l0 l1 l3 l3 M3 z4)
else
  ((gr M3 l0 [1] 5).bind fun v5 =>
(ai M3 0 v5 l3).bind fun v6 =>
(gr M3 l0 [1] 5).bind fun v7 =>
(ai M3 0 v7 l2).bind fun v8 =>
if v6 < v8 then
  (fX1_takerNow_J48 (fX1_takerNow_L5 fu) l0 l1 l3 l3 M3 z4)
else
  (fX1_takerNow_J48 (fX1_takerNow_L5 fu) l0 l1 l3 l2 M3 z4))))
else none)
else
  (some (l2, M, 0, 0))

theorem gX1_takerNow_L5 {G : Cx} {F : Option Value × Mp × Nat} (hF : FX G cX1_takerNow 4 RX1 (Option.some Jvm.ClassFile.FieldType.int) "takerNow" 2 49) : ∀ (fu : Nat) (l0 : Option Nat) (l1 : Int32) (l2 : Int32) (l3 : Int32) (M : Mp) (z : Nat), SK G F 4 eI 5 [some (va_rf l0), some (.int l1), some (.int l2), some (.int l3)] [] M z (fX1_takerNow_L5 fu l0 l1 l2 l3 M z) := by
  intro fu
  induction fu with
  | zero => intros; exact SK.fail
  | succ fu ih =>
    intro l0 l1 l2 l3 M z
    rw [fX1_takerNow_L5]
    refine s_iload_n (pc := 5) hF dX1_takerNow_5 rfl rfl ?_
    refine s_aload_n (pc := 6) hF dX1_takerNow_6 rfl rfl ?_
    refine s_geti (pc := 7) hF (fl_X1_98 hF) dX1_takerNow_7 (fun v1 => ?_)
    refine s_icmp_ge (pc := 10) hF 55 dX1_takerNow_10 rfl ?_ ?_
    · refine s_iload_n (pc := 55) hF dX1_takerNow_55 rfl rfl ?_
      exact s_iret (pc := 56) hF dX1_takerNow_56
    · refine s_aload_n (pc := 13) hF dX1_takerNow_13 rfl rfl ?_
      refine s_iload_n (pc := 14) hF dX1_takerNow_14 rfl rfl ?_
      refine s_iload_n (pc := 15) hF dX1_takerNow_15 rfl rfl ?_
      refine s_callV (pc := 16) (As := [.int l3, .int l1]) (st := []) (stf := fun r9 => .int r9 :: []) hF (mX1_takes l0 l3 l1) cw_X1_takes q1250 q1252 (List.forall_mem_cons.mpr ⟨⟨(RX1, TX1, 34), rfl, qs40⟩, fun _ h9 => absurd h9 List.not_mem_nil⟩) rfl ⟨Nat.le_of_ble_eq_true rfl, Nat.le_of_ble_eq_true rfl⟩ ⟨trivial, Nat.le_of_ble_eq_true rfl⟩ dX1_takerNow_16 rfl (fun _ => rfl) (fun v2 M3 z4 => ?_)
      refine s_if_eq (pc := 19) hF 47 dX1_takerNow_19 rfl ?_ ?_
      · refine s_iload_n (pc := 47) hF dX1_takerNow_47 rfl rfl ?_
        exact SK.sb (gX1_takerNow_J48 hF ih l0 l1 l3 l2 M3 z4) ⟨rfl, ⟨rfl, ⟨rfl, trivial⟩⟩⟩
      · refine s_iload_n (pc := 22) hF dX1_takerNow_22 rfl rfl ?_
        refine s_bipush (pc := 23) hF dX1_takerNow_23 (-9 : Int32) (by decide) ?_
        refine s_icmp_eq (pc := 25) hF 43 dX1_takerNow_25 rfl ?_ ?_
        · refine s_iload_n (pc := 43) hF dX1_takerNow_43 rfl rfl ?_
          refine s_goto (pc := 44) hF 48 dX1_takerNow_44 rfl ?_
          exact SK.sb (gX1_takerNow_J48 hF ih l0 l1 l3 l3 M3 z4) ⟨rfl, ⟨rfl, ⟨rfl, trivial⟩⟩⟩
        · refine s_aload_n (pc := 28) hF dX1_takerNow_28 rfl rfl ?_
          refine s_getr (pc := 29) hF (fl_X1_22 hF) dX1_takerNow_29 (fun v5 => ?_)
          refine s_iload_n (pc := 32) hF dX1_takerNow_32 rfl rfl ?_
          refine s_iald (pc := 33) hF dX1_takerNow_33 (fun v6 => ?_)
          refine s_aload_n (pc := 34) hF dX1_takerNow_34 rfl rfl ?_
          refine s_getr (pc := 35) hF (fl_X1_22 hF) dX1_takerNow_35 (fun v7 => ?_)
          refine s_iload_n (pc := 38) hF dX1_takerNow_38 rfl rfl ?_
          refine s_iald (pc := 39) hF dX1_takerNow_39 (fun v8 => ?_)
          refine s_icmp_ge (pc := 40) hF 47 dX1_takerNow_40 rfl ?_ ?_
          · refine s_iload_n (pc := 47) hF dX1_takerNow_47 rfl rfl ?_
            exact SK.sb (gX1_takerNow_J48 hF ih l0 l1 l3 l2 M3 z4) ⟨rfl, ⟨rfl, ⟨rfl, trivial⟩⟩⟩
          · refine s_iload_n (pc := 43) hF dX1_takerNow_43 rfl rfl ?_
            refine s_goto (pc := 44) hF 48 dX1_takerNow_44 rfl ?_
            exact SK.sb (gX1_takerNow_J48 hF ih l0 l1 l3 l3 M3 z4) ⟨rfl, ⟨rfl, ⟨rfl, trivial⟩⟩⟩
def fX1_takerNow (a0 : Option Nat) (a1 : Int32) (M : Mp) (z : Nat) : Rs Int32 := fX1_takerNow_L5 FU a0 a1 (-9 : Int32) (0 : Int32) M z
theorem gX1_takerNow {G : Cx} {F : Option Value × Mp × Nat} (hF : FX G cX1_takerNow 4 RX1 (Option.some Jvm.ClassFile.FieldType.int) "takerNow" 2 49) (a0 : Option Nat) (a1 : Int32) (M : Mp) (z : Nat) : SK G F 4 eI 0 [some (va_rf a0), some (.int a1), none, none] [] M z (fX1_takerNow a0 a1 M z) := by
  unfold fX1_takerNow
  refine s_bipush (pc := 0) hF dX1_takerNow_0 (-9 : Int32) (by decide) ?_
  refine s_istore_n (L9 := [some (va_rf a0), some (.int a1), some (.int (-9 : Int32)), none]) (pc := 2) hF dX1_takerNow_2 rfl (Nat.le_of_ble_eq_true rfl) rfl ?_
  refine s_iconst (pc := 3) hF dX1_takerNow_3 (0 : Int32) (by decide) ?_
  refine s_istore_n (L9 := [some (va_rf a0), some (.int a1), some (.int (-9 : Int32)), some (.int (0 : Int32))]) (pc := 4) hF dX1_takerNow_4 rfl (Nat.le_of_ble_eq_true rfl) rfl ?_
  exact SK.sb (gX1_takerNow_L5 hF FU a0 a1 (-9 : Int32) (0 : Int32) M z) ⟨rfl, ⟨rfl, ⟨rfl, ⟨rfl, trivial⟩⟩⟩⟩
theorem mX1_takerNow (a0 : Option Nat) (a1 : Int32) : MT yX1_takerNow cX1_takerNow 4 (Option.some Jvm.ClassFile.FieldType.int) 2 49 eI [va_rf a0, .int a1] (fX1_takerNow a0 a1) :=
  MT.of (L0 := [some (va_rf a0), some (.int a1), none, none]) (by decide) ⟨ct _, ⟨rfl, trivial⟩⟩ (Nat.le_of_ble_eq_true rfl) rfl (fun _ _ hF M z => gX1_takerNow hF a0 a1 M z)

theorem fl_X1_58 {G : Cx} {nL fr lc : Nat} {cc : ByteArray} {ret : Option FieldType} {nm : String} (hF : FX G cc nL RX1 ret nm fr lc) : ∀ c ∈ [1], GF G RX1 58 c 18 := by
  obtain ⟨⟨p, l, e, R, s, m, args, below, meth, c0⟩, A, D, dA, mi⟩ := G
  obtain ⟨hx, hb, hml, hown, hts, hr, hlk, hK, hnm, hfr, hlc⟩ := hF
  exact List.forall_mem_cons.mpr ⟨⟨RX1, TX1, 34, "StoryColumnsModel", rfl, in_X1, Nat.le_of_ble_eq_true rfl, Or.inl (hts _ q1056), fun _ h => h⟩, fun _ h9 => absurd h9 List.not_mem_nil⟩
theorem cw_X1_takerNow : CWm yX1_takerNow cX1_takerNow 4 (Option.some Jvm.ClassFile.FieldType.int) 1 := ⟨q1249, q63, by decide +kernel, by decide +kernel, by decide +kernel⟩
def fX1_joins_J75 (r2 : Option Nat → Int32 → Mp → Nat → Rs Int32) (l0 : Option Nat) (l1 : Int32) (M : Mp) (z : Nat) : Rs Int32 := r2 l0 (l1 + 1) M z

theorem gX1_joins_J75 {G : Cx} {F : Option Value × Mp × Nat}  {r2 : Option Nat → Int32 → Mp → Nat → Rs Int32}(hF : FX G cX1_joins 3 RX1 (Option.some Jvm.ClassFile.FieldType.boolean) "joins" 3 72) (hr2 : ∀ l0 l1 M z, SK G F 3 eI 2 [some (va_rf l0), some (.int l1), none] [] M z (r2 l0 l1 M z)) (l0 : Option Nat) (l1 : Int32) (M : Mp) (z : Nat) : SK G F 3 eI 75 [some (va_rf l0), some (.int l1), none] [] M z (fX1_joins_J75 r2 l0 l1 M z) := by
  unfold fX1_joins_J75
  refine s_iinc (v := l1 + 1) (L9 := [some (va_rf l0), some (.int (l1 + 1)), none]) (pc := 75) hF dX1_joins_75 rfl rfl (Nat.le_of_ble_eq_true rfl) rfl ?_
  refine s_goto (pc := 78) hF 2 dX1_joins_78 rfl ?_
  exact SK.sb (hr2 l0 (l1 + 1) M z) ⟨rfl, ⟨rfl, trivial⟩⟩

def fX1_joins_L2 : Nat → Option Nat → Int32 → Mp → Nat → Rs Int32
  | 0, _, _, _, _ => none
  | fu + 1, l0, l1, M, z => (gi M l0 [1] 0).bind fun v1 =>
if l1 < v1 then
  ((gr M l0 [1] 2).bind fun v2 =>
(ai M 0 v2 l1).bind fun v3 =>
if v3 = (1 : Int32) then
  ((gr M l0 [1] 17).bind fun v4 =>
(ai M 0 v4 l1).bind fun v5 =>
if v5 = (-9 : Int32) then
  (if ckc M l0 [1] = true then
  (cb (fX1_takerNow l0 l1 M z) z fun v6 M7 z8 =>
if v6 = (-9 : Int32) then
  (fX1_joins_J75 (fX1_joins_L2 fu) l0 l1 M7 z8)
else
  ((gr M7 l0 [1] 18).bind fun v9 =>
(si M7 0 v9 l1 v6).bind fun M10 =>
(gr M10 l0 [1] 17).bind fun v11 =>
(gr M10 l0 [1] 17).bind fun v12 =>
(ai M10 0 v12 v6).bind fun v13 =>
(si M10 0 v11 l1 v13).bind fun M14 =>
(gr M14 l0 [1] 17).bind fun v15 =>
(ai M14 0 v15 v6).bind fun v16 =>
if ckc M14 l0 [1] = true then
  (cb (fX1_comesBehind l0 v16 l1 M14 z8) z8 fun _ M18 z19 =>
some ((1 : Int32), M18, 0, 0))
else none))
else none)
else
  (fX1_joins_J75 (fX1_joins_L2 fu) l0 l1 M z))
else
  (fX1_joins_J75 (fX1_joins_L2 fu) l0 l1 M z))
else
  (some ((0 : Int32), M, 0, 0))

theorem gX1_joins_L2 {G : Cx} {F : Option Value × Mp × Nat} (hF : FX G cX1_joins 3 RX1 (Option.some Jvm.ClassFile.FieldType.boolean) "joins" 3 72) : ∀ (fu : Nat) (l0 : Option Nat) (l1 : Int32) (M : Mp) (z : Nat), SK G F 3 eI 2 [some (va_rf l0), some (.int l1), none] [] M z (fX1_joins_L2 fu l0 l1 M z) := by
  intro fu
  induction fu with
  | zero => intros; exact SK.fail
  | succ fu ih =>
    intro l0 l1 M z
    rw [fX1_joins_L2]
    refine s_iload_n (pc := 2) hF dX1_joins_2 rfl rfl ?_
    refine s_aload_n (pc := 3) hF dX1_joins_3 rfl rfl ?_
    refine s_geti (pc := 4) hF (fl_X1_98 hF) dX1_joins_4 (fun v1 => ?_)
    refine s_icmp_ge (pc := 7) hF 81 dX1_joins_7 rfl ?_ ?_
    · refine s_iconst (pc := 81) hF dX1_joins_81 (0 : Int32) (by decide) ?_
      exact s_zretL (pc := 82) hF dX1_joins_82 (by decide)
    · refine s_aload_n (pc := 10) hF dX1_joins_10 rfl rfl ?_
      refine s_getr (pc := 11) hF (fl_X1_13 hF) dX1_joins_11 (fun v2 => ?_)
      refine s_iload_n (pc := 14) hF dX1_joins_14 rfl rfl ?_
      refine s_iald (pc := 15) hF dX1_joins_15 (fun v3 => ?_)
      refine s_iconst (pc := 16) hF dX1_joins_16 (1 : Int32) (by decide) ?_
      refine s_icmp_ne (pc := 17) hF 75 dX1_joins_17 rfl ?_ ?_
      · exact SK.sb (gX1_joins_J75 hF ih l0 l1 M z) ⟨rfl, ⟨rfl, trivial⟩⟩
      · refine s_aload_n (pc := 20) hF dX1_joins_20 rfl rfl ?_
        refine s_getr (pc := 21) hF (fl_X1_55 hF) dX1_joins_21 (fun v4 => ?_)
        refine s_iload_n (pc := 24) hF dX1_joins_24 rfl rfl ?_
        refine s_iald (pc := 25) hF dX1_joins_25 (fun v5 => ?_)
        refine s_bipush (pc := 26) hF dX1_joins_26 (-9 : Int32) (by decide) ?_
        refine s_icmp_ne (pc := 28) hF 75 dX1_joins_28 rfl ?_ ?_
        · exact SK.sb (gX1_joins_J75 hF ih l0 l1 M z) ⟨rfl, ⟨rfl, trivial⟩⟩
        · refine s_aload_n (pc := 31) hF dX1_joins_31 rfl rfl ?_
          refine s_iload_n (pc := 32) hF dX1_joins_32 rfl rfl ?_
          refine s_callV (pc := 33) (As := [.int l1]) (st := []) (stf := fun r9 => .int r9 :: []) hF (mX1_takerNow l0 l1) cw_X1_takerNow q1246 q1248 (List.forall_mem_cons.mpr ⟨⟨(RX1, TX1, 34), rfl, qs39⟩, fun _ h9 => absurd h9 List.not_mem_nil⟩) rfl ⟨Nat.le_of_ble_eq_true rfl, Nat.le_of_ble_eq_true rfl⟩ ⟨trivial, Nat.le_of_ble_eq_true rfl⟩ dX1_joins_33 rfl (fun _ => rfl) (fun v6 M7 z8 => ?_)
          refine s_istore_n (L9 := [some (va_rf l0), some (.int l1), some (.int v6)]) (pc := 36) hF dX1_joins_36 rfl (Nat.le_of_ble_eq_true rfl) rfl ?_
          refine s_iload_n (pc := 37) hF dX1_joins_37 rfl rfl ?_
          refine s_bipush (pc := 38) hF dX1_joins_38 (-9 : Int32) (by decide) ?_
          refine s_icmp_eq (pc := 40) hF 75 dX1_joins_40 rfl ?_ ?_
          · exact SK.sb (gX1_joins_J75 hF ih l0 l1 M7 z8) ⟨rfl, ⟨rfl, trivial⟩⟩
          · refine s_aload_n (pc := 43) hF dX1_joins_43 rfl rfl ?_
            refine s_getr (pc := 44) hF (fl_X1_58 hF) dX1_joins_44 (fun v9 => ?_)
            refine s_iload_n (pc := 47) hF dX1_joins_47 rfl rfl ?_
            refine s_iload_n (pc := 48) hF dX1_joins_48 rfl rfl ?_
            refine s_iast (pc := 49) hF dX1_joins_49 (fun M10 => ?_)
            refine s_aload_n (pc := 50) hF dX1_joins_50 rfl rfl ?_
            refine s_getr (pc := 51) hF (fl_X1_55 hF) dX1_joins_51 (fun v11 => ?_)
            refine s_iload_n (pc := 54) hF dX1_joins_54 rfl rfl ?_
            refine s_aload_n (pc := 55) hF dX1_joins_55 rfl rfl ?_
            refine s_getr (pc := 56) hF (fl_X1_55 hF) dX1_joins_56 (fun v12 => ?_)
            refine s_iload_n (pc := 59) hF dX1_joins_59 rfl rfl ?_
            refine s_iald (pc := 60) hF dX1_joins_60 (fun v13 => ?_)
            refine s_iast (pc := 61) hF dX1_joins_61 (fun M14 => ?_)
            refine s_aload_n (pc := 62) hF dX1_joins_62 rfl rfl ?_
            refine s_aload_n (pc := 63) hF dX1_joins_63 rfl rfl ?_
            refine s_getr (pc := 64) hF (fl_X1_55 hF) dX1_joins_64 (fun v15 => ?_)
            refine s_iload_n (pc := 67) hF dX1_joins_67 rfl rfl ?_
            refine s_iald (pc := 68) hF dX1_joins_68 (fun v16 => ?_)
            refine s_iload_n (pc := 69) hF dX1_joins_69 rfl rfl ?_
            refine s_callV (pc := 70) (As := [.int v16, .int l1]) (st := []) (stf := fun r9 => []) hF (mX1_comesBehind l0 v16 l1) cw_X1_comesBehind q1234 q1236 (List.forall_mem_cons.mpr ⟨⟨(RX1, TX1, 34), rfl, qs36⟩, fun _ h9 => absurd h9 List.not_mem_nil⟩) rfl ⟨Nat.le_of_ble_eq_true rfl, Nat.le_of_ble_eq_true rfl⟩ ⟨trivial, Nat.le_of_ble_eq_true rfl⟩ dX1_joins_70 rfl (fun _ => rfl) (fun v17 M18 z19 => ?_)
            refine s_iconst (pc := 73) hF dX1_joins_73 (1 : Int32) (by decide) ?_
            exact s_zretL (pc := 74) hF dX1_joins_74 (by decide)
def fX1_joins (a0 : Option Nat) (M : Mp) (z : Nat) : Rs Int32 := fX1_joins_L2 FU a0 (0 : Int32) M z
theorem gX1_joins {G : Cx} {F : Option Value × Mp × Nat} (hF : FX G cX1_joins 3 RX1 (Option.some Jvm.ClassFile.FieldType.boolean) "joins" 3 72) (a0 : Option Nat) (M : Mp) (z : Nat) : SK G F 3 eI 0 [some (va_rf a0), none, none] [] M z (fX1_joins a0 M z) := by
  unfold fX1_joins
  refine s_iconst (pc := 0) hF dX1_joins_0 (0 : Int32) (by decide) ?_
  refine s_istore_n (L9 := [some (va_rf a0), some (.int (0 : Int32)), none]) (pc := 1) hF dX1_joins_1 rfl (Nat.le_of_ble_eq_true rfl) rfl ?_
  exact SK.sb (gX1_joins_L2 hF FU a0 (0 : Int32) M z) ⟨rfl, ⟨rfl, trivial⟩⟩
theorem mX1_joins (a0 : Option Nat) : MT yX1_joins cX1_joins 3 (Option.some Jvm.ClassFile.FieldType.boolean) 3 72 eI [va_rf a0] (fX1_joins a0) :=
  MT.of (L0 := [some (va_rf a0), none, none]) (by decide) ⟨ct _, trivial⟩ (Nat.le_of_ble_eq_true rfl) rfl (fun _ _ hF M z => gX1_joins hF a0 M z)
