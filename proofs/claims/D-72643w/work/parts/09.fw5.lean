set_option maxRecDepth 100000
def FU : Nat := 1000
theorem ap_0 {s : State} {args : Array Value} {D : va_G} {dA : Nat → Nat} {mi : Nat} (hts : ∀ w ∈ lw_all, w.before args s = true) (hK : Kx D dA mi s) : ∀ x y, x < 6 → y < 6 → x ≠ y → (D.2 0) x ≠ (D.2 0) y := va_apart (own := RX0) hts in_X0 tyX0 tyX0_ok nmX0 hK.1 rfl
theorem ap_1 {s : State} {args : Array Value} {D : va_G} {dA : Nat → Nat} {mi : Nat} (hts : ∀ w ∈ lw_all, w.before args s = true) (hK : Kx D dA mi s) : ∀ x y, x < 34 → y < 34 → x ≠ y → (D.2 1) x ≠ (D.2 1) y := va_apart (own := RX1) hts in_X1 tyX1 tyX1_ok nmX1 hK.1 rfl
theorem ap_2 {s : State} {args : Array Value} {D : va_G} {dA : Nat → Nat} {mi : Nat} (hts : ∀ w ∈ lw_all, w.before args s = true) (hK : Kx D dA mi s) : ∀ x y, x < 13 → y < 13 → x ≠ y → (D.2 2) x ≠ (D.2 2) y := va_apart (own := RX2) hts in_X2 tyX2 tyX2_ok nmX2 hK.1 rfl
theorem ap_4 {s : State} {args : Array Value} {D : va_G} {dA : Nat → Nat} {mi : Nat} (hts : ∀ w ∈ lw_all, w.before args s = true) (hK : Kx D dA mi s) : ∀ x y, x < 5 → y < 5 → x ≠ y → (D.2 4) x ≠ (D.2 4) y := va_apart (own := RX4) hts in_X4 tyX4 tyX4_ok nmX4 hK.1 rfl
theorem ap_5 {s : State} {args : Array Value} {D : va_G} {dA : Nat → Nat} {mi : Nat} (hts : ∀ w ∈ lw_all, w.before args s = true) (hK : Kx D dA mi s) : ∀ x y, x < 8 → y < 8 → x ≠ y → (D.2 5) x ≠ (D.2 5) y := va_apart (own := RX5) hts in_X5 tyX5 tyX5_ok nmX5 hK.1 rfl
theorem ap_6 {s : State} {args : Array Value} {D : va_G} {dA : Nat → Nat} {mi : Nat} (hts : ∀ w ∈ lw_all, w.before args s = true) (hK : Kx D dA mi s) : ∀ x y, x < 2 → y < 2 → x ≠ y → (D.2 6) x ≠ (D.2 6) y := va_apart (own := RX6) hts in_X6 tyX6 tyX6_ok nmX6 hK.1 rfl
theorem ap_7 {s : State} {args : Array Value} {D : va_G} {dA : Nat → Nat} {mi : Nat} (hts : ∀ w ∈ lw_all, w.before args s = true) (hK : Kx D dA mi s) : ∀ x y, x < 4 → y < 4 → x ≠ y → (D.2 7) x ≠ (D.2 7) y := va_apart (own := RX7) hts in_X7 tyX7 tyX7_ok nmX7 hK.1 rfl
theorem ap_8 {s : State} {args : Array Value} {D : va_G} {dA : Nat → Nat} {mi : Nat} (hts : ∀ w ∈ lw_all, w.before args s = true) (hK : Kx D dA mi s) : ∀ x y, x < 2 → y < 2 → x ≠ y → (D.2 8) x ≠ (D.2 8) y := va_apart (own := RX8) hts in_X8 tyX8 tyX8_ok nmX8 hK.1 rfl
theorem ap_9 {s : State} {args : Array Value} {D : va_G} {dA : Nat → Nat} {mi : Nat} (hts : ∀ w ∈ lw_all, w.before args s = true) (hK : Kx D dA mi s) : ∀ x y, x < 2 → y < 2 → x ≠ y → (D.2 9) x ≠ (D.2 9) y := va_apart (own := RX9) hts in_X9 tyX9 tyX9_ok nmX9 hK.1 rfl
theorem ap_10 {s : State} {args : Array Value} {D : va_G} {dA : Nat → Nat} {mi : Nat} (hts : ∀ w ∈ lw_all, w.before args s = true) (hK : Kx D dA mi s) : ∀ x y, x < 4 → y < 4 → x ≠ y → (D.2 10) x ≠ (D.2 10) y := va_apart (own := RX10) hts in_X10 tyX10 tyX10_ok nmX10 hK.1 rfl
theorem ap_11 {s : State} {args : Array Value} {D : va_G} {dA : Nat → Nat} {mi : Nat} (hts : ∀ w ∈ lw_all, w.before args s = true) (hK : Kx D dA mi s) : ∀ x y, x < 3 → y < 3 → x ≠ y → (D.2 11) x ≠ (D.2 11) y := va_apart (own := RJ2) hts in_J2 tyJ2 tyJ2_ok nmJ2 hK.1 rfl
theorem ap_12 {s : State} {args : Array Value} {D : va_G} {dA : Nat → Nat} {mi : Nat} (hts : ∀ w ∈ lw_all, w.before args s = true) (hK : Kx D dA mi s) : ∀ x y, x < 4 → y < 4 → x ≠ y → (D.2 12) x ≠ (D.2 12) y := va_apart (own := RJ3) hts in_J3 tyJ3 tyJ3_ok nmJ3 hK.1 rfl
theorem ap_3 {s : State} {args : Array Value} {D : va_G} {dA : Nat → Nat} {mi : Nat} (hts : ∀ w ∈ lw_all, w.before args s = true) (hK : Kx D dA mi s) : ∀ x y, x < 14 → y < 14 → x ≠ y → (D.2 3) x ≠ (D.2 3) y := by
  intro x y hx hy hne
  obtain ⟨hS, -⟩ := hK.1.1 3 (RX3, TX3, 14) rfl
  obtain ⟨ca, ka, _, fa, hia, ea⟩ := hS x hx
  obtain ⟨cb, kb, _, fb, hib, eb⟩ := hS y hy
  rw [← ea, ← eb]
  by_cases hn : (TX3 x).2.1 = (TX3 y).2.1
  · -- the two fields of one name: other declarers
    have hxy : (x = 12 ∧ y = 13) ∨ (x = 13 ∧ y = 12) := by
      have key : ∀ a, a < 14 → ∀ b, b < 14 → (a ≠ b ∧ (TX3 a).2.1 = (TX3 b).2.1 → (a = 12 ∧ b = 13) ∨ (a = 13 ∧ b = 12)) := by decide +kernel
      exact key x hx y hy ⟨hne, hn⟩
    have hA : (Cond.laysFinal "StoryColumns$Head" "StoryColumns$Block" "this$0" "LStoryColumns;").before args s = true := hts _ (in_X3 _ (u_in_lay (k := 12) (by decide)))
    have hB : (Cond.laysFinal "StoryColumns$Head" "StoryColumns$Head" "this$0" "LStoryColumns;").before args s = true := hts _ (in_X3 _ (u_in_lay (k := 13) (by decide)))
    obtain ⟨c1, _, c1', k1', _, f1, g1, _, hf1, _, _, _, hown1, _, d1, hd1, hn1, -⟩ := Cond.laysFinal_spec hA
    obtain ⟨c2, _, c2', k2', _, f2, g2, _, hf2, _, _, _, hown2, _, d2, hd2, hn2, -⟩ := Cond.laysFinal_spec hB
    have hc : c1 = c2 := Option.some.inj (g1.symm.trans g2)
    subst hc
    have hslot : f1.slot ≠ f2.slot := by
      intro e
      rw [e] at hd1
      have hd : d1 = d2 := Option.some.inj (hd1.symm.trans hd2)
      subst hd
      obtain ⟨q1, hq1, hq1n⟩ := Vm.findClass_spec hown1
      obtain ⟨q2, hq2, hq2n⟩ := Vm.findClass_spec hown2
      have hk1 := (State.fieldFound?_spec hf1).1
      have hk2 := (State.fieldFound?_spec hf2).1
      have z1 : k1' = q1 := Option.some.inj (hk1.symm.trans hq1)
      have z2 : k2' = q2 := Option.some.inj (hk2.symm.trans hq2)
      have z3 : q1.name = q2.name := by rw [← z1, ← z2]; exact hn1.symm.trans hn2
      rw [hq1n, hq2n] at z3
      exact absurd z3 (by decide)
    rcases hxy with ⟨rfl, rfl⟩ | ⟨rfl, rfl⟩
    · have e1 : fa = f1 := by have := hia.symm.trans hf1; simp at this; exact this.2.2.2
      have e2 : fb = f2 := by have := hib.symm.trans hf2; simp at this; exact this.2.2.2
      rw [e1, e2]; exact hslot
    · have e1 : fa = f2 := by have := hia.symm.trans hf2; simp at this; exact this.2.2.2
      have e2 : fb = f1 := by have := hib.symm.trans hf1; simp at this; exact this.2.2.2
      rw [e1, e2]; exact fun h => hslot h.symm
  · refine u_apart (C := RX3) (u_lays hts in_X3 hx) (u_lays hts in_X3 hy) hia hib ?_
    rw [(State.fieldFound?_type hia (tyX3_ok x hx)).1, (State.fieldFound?_type hib (tyX3_ok y hy)).1]
    exact hn
section SIM5
variable {G : Cx} {F : Option Value × Mp × Nat} {nL pc z fr lc : Nat} {ρ : Type} {enc : ρ → Option Value} {L : List (Option Value)} {st : List Value} {M : Mp} {k k2 : Rs ρ} {cc : ByteArray} {own nm : String} {ret : Option FieldType}
theorem SK.sb {L' : List (Option Value)} (h : SK G F nL enc pc L' st M z k) (hs : subL L' L) : SK G F nL enc pc L st M z k := SK.sub hs h
theorem s_zretL (hF : FX G cc nL own (some .boolean) nm fr lc) {v : Int32} (hd : decode cc pc = .ok (.ireturn, 1)) (hv : v = 0 ∨ v = 1) : SK G F nL eI pc L [.int v] M z (some (v, M, 0, 0)) := by
  have := s_zret (F := F) (L := L) (M := M) (z := z) hF (v := v) hd
  rw [if_pos hv] at this
  exact this
end SIM5
theorem mx_st : Cond.static Lib.Math.max.name ∈ lw_all := q472
theorem mx_in : Cond.initialized "java/lang/Math" ∈ lw_all := q70
theorem mx_cd : Cond.code Lib.Math.max.name Lib.Math.max.code 2 (some .int) ∈ lw_all := q473
theorem mn_st : Cond.static Lib.Math.min.name ∈ lw_all := q504
theorem mn_cd : Cond.code Lib.Math.min.name Lib.Math.min.code 2 (some .int) ∈ lw_all := q505
theorem ac_nat : Cond.native arraycopyName ∈ lw_all := q508
theorem ac_st : Cond.static arraycopyName ∈ lw_all := q507
theorem ac_in : Cond.initialized "java/lang/System" ∈ lw_all := q72
def mx (x y : Int32) : Int32 := if x < y then y else x
def mn (x y : Int32) : Int32 := if y < x then y else x
section SIM6
variable {G : Cx} {F : Option Value × Mp × Nat} {nL pc z fr lc idx : Nat} {ρ : Type} {enc : ρ → Option Value} {L : List (Option Value)} {st : List Value} {M : Mp} {k k2 : Rs ρ} {cc : ByteArray} {own nm : String} {ret : Option FieldType}
theorem s_max {x y : Int32} (hF : FX G cc nL own ret nm fr lc) (hl1 : Cond.methodLink own idx Lib.Math.max.name ∈ lw_all) (hR : 1 ≤ fr ∧ 21 ≤ lc) (hst : okst st ∧ st.length ≤ 8) (hd : decode cc pc = .ok (.invokestatic idx, 3))
    (k1 : SK G F nL enc (pc + 3) L (.int (mx x y) :: st) M z k) : SK G F nL enc pc L (.int y :: .int x :: st) M z k := by
  intro r9 dc ds hk he
  have kk := k1 r9 dc ds hk he
  obtain ⟨⟨p, l, e, R, s, m, args, below, meth, c0⟩, A, D, dA, mi⟩ := G
  obtain ⟨hx, hb, hml, hown, hts, hr, hlk, hK, hnm, hfr, hlc⟩ := hF
  intro H locs cells slots ls hl hW hS h1 h2 h3
  exact va_mmax hx hb (by rw [hml]; exact hl.1.symm) hown (hts _ hl1) (hts _ mx_st) (hts _ mx_in) (hts _ mx_cd) (Nat.le_trans hR.1 hfr) (by rw [okst_sum st hst.1]; have := hst.2; omega) (by omega) (by omega) hd (kk H locs cells slots ls hl hW hS h1 h2 h3)
theorem s_min {x y : Int32} (hF : FX G cc nL own ret nm fr lc) (hl1 : Cond.methodLink own idx Lib.Math.min.name ∈ lw_all) (hR : 1 ≤ fr ∧ 21 ≤ lc) (hst : okst st ∧ st.length ≤ 8) (hd : decode cc pc = .ok (.invokestatic idx, 3))
    (k1 : SK G F nL enc (pc + 3) L (.int (mn x y) :: st) M z k) : SK G F nL enc pc L (.int y :: .int x :: st) M z k := by
  intro r9 dc ds hk he
  have kk := k1 r9 dc ds hk he
  obtain ⟨⟨p, l, e, R, s, m, args, below, meth, c0⟩, A, D, dA, mi⟩ := G
  obtain ⟨hx, hb, hml, hown, hts, hr, hlk, hK, hnm, hfr, hlc⟩ := hF
  intro H locs cells slots ls hl hW hS h1 h2 h3
  exact va_mmin hx hb (by rw [hml]; exact hl.1.symm) hown (hts _ hl1) (hts _ mn_st) (hts _ mx_in) (hts _ mn_cd) (Nat.le_trans hR.1 hfr) (by rw [okst_sum st hst.1]; have := hst.2; omega) (by omega) (by omega) hd (kk H locs cells slots ls hl hW hS h1 h2 h3)
theorem ac_some {src dst : Option Nat} {sp dp n : Int32} {M' : Mp} (h : ac M src sp dst dp n = some M') : ∃ a0 a n0 n1 f g, src = some a0 ∧ dst = some a ∧ M a0 = some (.inl (2, n0, .inr (.inr (.inr (.inr f))))) ∧ M a = some (.inl (2, n1, .inr (.inr (.inr (.inr g))))) ∧ ¬ sp < 0 ∧ ¬ dp < 0 ∧ ¬ n < 0 ∧ sp.toNatClampNeg + n.toNatClampNeg ≤ n0 ∧ dp.toNatClampNeg + n.toNatClampNeg ≤ n1 ∧ (∀ i, i < n.toNatClampNeg → isO M 2 (f (sp.toNatClampNeg + i)) = true) ∧ M' = va_up M a (some (.inl (2, n1, .inr (.inr (.inr (.inr (va_cpy f g sp.toNatClampNeg dp.toNatClampNeg n.toNatClampNeg))))))) := by
  unfold ac at h
  split at h
  · rename_i a0 a
    split at h
    · rename_i k0 n0 f k1 n1 g hm0 hm1
      split at h
      · rename_i hc
        obtain ⟨⟨rfl, rfl⟩, ⟨h1, h2, h3⟩, ⟨h4, h5⟩, h6⟩ := hc
        cases h
        refine ⟨a0, a, n0, n1, f, g, rfl, rfl, hm0, hm1, h1, h2, h3, h4, h5, fun i hi => ?_, rfl⟩
        exact List.all_eq_true.mp h6 i (List.mem_range.mpr hi)
      · cases h
    · cases h
  · cases h
theorem s_acopy {src dst : Option Nat} {sp dp n : Int32} {kf : Mp → Rs ρ} (hF : FX G cc nL own ret nm fr lc) (hl1 : Cond.methodLink own idx arraycopyName ∈ lw_all) (hR : 1 ≤ fr ∧ 60 ≤ lc) (hst : okst st ∧ st.length ≤ 8) (hd : decode cc pc = .ok (.invokestatic idx, 3))
    (k1 : ∀ M', SK G F nL enc (pc + 3) L st M' z (kf M')) : SK G F nL enc pc L (.int n :: .int dp :: va_rf dst :: .int sp :: va_rf src :: st) M z ((ac M src sp dst dp n).bind kf) := by
  intro r9 dc ds hk he
  obtain ⟨M', hM, hkk⟩ := Option.bind_eq_some_iff.mp hk
  obtain ⟨a0, a, n0, n1, f, g, rfl, rfl, ha0, ha, hs1, hs2, hs3, hs4, hs5, hel, rfl⟩ := ac_some hM
  have kk := k1 _ r9 dc ds hkk he
  obtain ⟨⟨p, l, e, R, s, m, args, below, meth, c0⟩, A, D, dA, mi⟩ := G
  obtain ⟨hx, hb, hml, hown, hts, hr, hlk, hK, hnm, hfr, hlc⟩ := hF
  intro H locs cells slots ls hl hW hS h1 h2 h3
  have nn : ∀ z : Int32, ¬ z < 0 → z.toInt = ((z.toNatClampNeg : Nat) : Int) := by
    intro z hz
    have hz0 : (0 : Int) ≤ z.toInt := by
      have := Int32.not_lt.mp hz
      simpa using Int32.le_iff_toInt_le.mp this
    show z.toInt = ((z.toInt.toNat : Nat) : Int)
    omega
  intro T hT X
  have hc0 : H[a0]? = some (vp_cell (dA 2) (n0, .inr (.inr (.inr (.inr f))))) := hW.cell ha0
  have hc1 : H[a]? = some (vp_cell (dA 2) (n1, .inr (.inr (.inr (.inr g))))) := hW.cell ha
  obtain ⟨-, k0, hk0, cm0, hkk0⟩ := (hK.1.2 2 (dA 2, .object "java/lang/Object") rfl).1 n0 (fun j => va_rf (f j))
  obtain ⟨-, k1', hk1', cm1, hkk1⟩ := (hK.1.2 2 (dA 2, .object "java/lang/Object") rfl).1 n1 (fun j => va_rf (g j))
  obtain ⟨vm', X', step⟩ := X.arraycopy hx hown (hts _ hl1) (hts _ ac_nat) (hts _ ac_st) (hts _ ac_in) (src := a0) (dst := a) (cs := vp_cell (dA 2) (n0, .inr (.inr (.inr (.inr f))))) (cd := vp_cell (dA 2) (n1, .inr (.inr (.inr (.inr g))))) (srcPos := sp) (destPos := dp) (n := n) (by rw [hT]; exact hc0) (by rw [hT]; exact hc1)
    (fun _ h => by cases h) (fun _ h => by cases h) (fun h => by cases h) (fun h => by cases h) hk0 hk1' hkk0 hkk1 rfl hs1 hs2 hs3
    (by rw [nn sp hs1, nn n hs3]; show ¬ _ > ((arrV (dA 2) n0 (fun j => va_rf (f j))).slots.size : Int); rw [arrV_size]; omega)
    (by rw [nn dp hs2, nn n hs3]; show ¬ _ > ((arrV (dA 2) n1 (fun j => va_rf (g j))).slots.size : Int); rw [arrV_size]; omega)
    (fun vm₁ hal i hi => by
      have e : (vp_cell (dA 2) (n0, .inr (.inr (.inr (.inr f))))).slots.getD (sp.toNatClampNeg + i) .null = va_rf (f (sp.toNatClampNeg + i)) := by
        show (arrV (dA 2) n0 (fun j => va_rf (f j))).slots.getD _ _ = _
        rw [Array.getD_eq_getD_getElem?, arrV_read _ _ (by omega)]
        rfl
      rw [e]
      have hoi := hel i hi
      cases hy : f (sp.toNatClampNeg + i) with
      | none => exact ⟨rfl, trivial⟩
      | some y =>
        rw [hy] at hoi
        obtain ⟨cellV, g1, g2, ⟨kC, hkC⟩, hasg⟩ := any_ok hK hW (Or.inl rfl) hoi
        obtain ⟨kA, comp, r1, r2, r3, -⟩ := (hK.1.2 2 (dA 2, .object "java/lang/Object") rfl).2
        cases hk1'.symm.trans r1
        cases hkk1.symm.trans r2
        obtain ⟨kE, hkE, -⟩ := Vm.findClass_spec r3
        obtain ⟨kC', hkC', -⟩ := hal.2.2 _ _ hkC
        obtain ⟨kE', hkE', -⟩ := hal.2.2 _ _ hkE
        refine ⟨rfl, cellV, (show T.heap[y]? = some cellV by rw [hT]; exact g1), (fun q h => by rw [h] at g2; cases g2), ⟨kC', hkC'⟩, ?_, ?_⟩
        · exact ⟨kE', hkE'⟩
        · show vm₁.assignable _ _ = true
          rw [hal.assignable]
          exact hasg _ r3)
    (g := F0 m pc ls (.int n :: .int dp :: .ref a :: .int sp :: .ref a0 :: st)) rfl (by rw [hml]; exact hl.1) (rest := st) rfl (by rw [hb]; exact hd) (Nat.le_trans hR.1 hfr) (by show 2 * 0 + _ + (nativeFrameWords "java/lang/System" "arraycopy" 5 + 11) ≤ _; rw [okst_sum st hst.1]; have := hst.2; have hq : nativeFrameWords "java/lang/System" "arraycopy" 5 ≤ 40 := by decide +kernel
                                                                                                                                                                                  omega)
  have e1 : copied (vp_cell (dA 2) (n0, .inr (.inr (.inr (.inr f))))) (vp_cell (dA 2) (n1, .inr (.inr (.inr (.inr g))))) sp dp n = vp_cell (dA 2) (n1, .inr (.inr (.inr (.inr (va_cpy f g sp.toNatClampNeg dp.toNatClampNeg n.toNatClampNeg))))) := by
    rw [vp_cell_q, vp_cell_q, vp_cell_q]
    exact va_copied (fun z => va_rf z) (dA 2) (dA 2) f g hs4
  rw [e1] at X' step
  have hlt : a < H.size := (Array.getElem?_eq_some_iff.mp hc1).1
  have hheap : ((T.setVm vm').setCell a (vp_cell (dA 2) (n1, .inr (.inr (.inr (.inr (va_cpy f g sp.toNatClampNeg dp.toNatClampNeg n.toNatClampNeg))))))).heap = H.setIfInBounds a (vp_cell (dA 2) (n1, .inr (.inr (.inr (.inr (va_cpy f g sp.toNatClampNeg dp.toNatClampNeg n.toNatClampNeg)))))) := by rw [← hT]; rfl
  have oq : ∀ q : Nat, q ≠ a → (H.setIfInBounds a (vp_cell (dA 2) (n1, .inr (.inr (.inr (.inr (va_cpy f g sp.toNatClampNeg dp.toNatClampNeg n.toNatClampNeg)))))))[q]? = H[q]? := fun q hq => by simp [Array.getElem?_setIfInBounds, Ne.symm hq]
  have hz : (H.setIfInBounds a (vp_cell (dA 2) (n1, .inr (.inr (.inr (.inr (va_cpy f g sp.toNatClampNeg dp.toNatClampNeg n.toNatClampNeg))))))).size = H.size := by simp
  obtain ⟨t, a1, b1⟩ := kk _ _ cells slots ls hl (hW.set ha hz (show (H.setIfInBounds a _)[a]? = some _ by simp [Array.getElem?_setIfInBounds, hlt]) oq) ⟨by rw [hz]; exact hS.1, fun q g1 g2 => by
      rw [oq q (fun e => g2 (by rw [e]; exact (hW.2.1 a _ ha).2))]
      exact hS.2.1 q g1 g2, fun q hq => by
      rcases List.mem_append.mp hq with h | h
      · exact hS.2.2 q h
      · obtain ⟨z, -, hz⟩ := List.mem_map.mp h
        rw [← hz]
        exact (hW.2.1 a _ ha).2⟩ h1 h2 h3 _ hheap X'
  exact ⟨t, step t a1, b1⟩
end SIM6
