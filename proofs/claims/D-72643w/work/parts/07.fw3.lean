set_option maxRecDepth 100000
/-! ===== rows over the heap ===== -/
/-- what a site's field word says of an object of class number c: its field j -/
def GF (G : Cx) (own : String) (idx c j : Nat) : Prop := match G with
  | ((_, _, _, _, s, _, args, _, _, _), _, _, _, _) => ∃ (C : String) (T : u_T) (N : Nat) (ref : String), cl_[c]? = some (C, T, N) ∧ (∀ w ∈ u_ws C T N, w ∈ lw_all) ∧ j < N ∧ ((Cond.fieldLink own idx ref (T j).2.1 (T j).2.2.1).before args s = true ∨ ∃ host, (Cond.fieldLinkNest own idx ref (T j).2.1 (T j).2.2.1 host).before args s = true) ∧ (∀ x, s.fieldFound? (T j).1 (T j).2.1 (T j).2.2.1 = some x → s.fieldFound? ref (T j).2.1 (T j).2.2.1 = some x)
/-- .. of a store of v: own, not final (or final, in the constructor), or a nest mate's -/
def PF (G : Cx) (own nm : String) (idx c j : Nat) (v : Value) : Prop := match G with
  | ((_, _, _, _, s, _, args, _, _, _), _, D, _, _) => ∃ (C : String) (T : u_T) (N : Nat) (ref : String) (ty : FieldType), cl_[c]? = some (C, T, N) ∧ (∀ w ∈ u_ws C T N, w ∈ lw_all) ∧ j < N ∧
    (((Cond.fieldLink own idx ref (T j).2.1 (T j).2.2.1).before args s = true ∧ ((T j).2.2.2 = false ∨ ((T j).2.2.2 = true ∧ nm = "<init>" ∧ (T j).1 = own))) ∨ ((T j).2.2.2 = false ∧ ∃ host, (Cond.fieldLinkNest own idx ref (T j).2.1 (T j).2.2.1 host).before args s = true)) ∧
    (∀ x, s.fieldFound? (T j).1 (T j).2.1 (T j).2.2.1 = some x → s.fieldFound? ref (T j).2.1 (T j).2.2.1 = some x) ∧ parseFieldDescriptor (T j).2.2.1 = some ty ∧ narrow ty v = v ∧ fits ty v = true ∧ (∀ x y, x < N → y < N → x ≠ y → (D.2 c) x ≠ (D.2 c) y)
section SIM3
variable {G : Cx} {F : Option Value × Mp × Nat} {nL pc z fr lc : Nat} {ρ : Type} {enc : ρ → Option Value} {L : List (Option Value)} {st : List Value} {M : Mp} {k k2 : Rs ρ} {cc : ByteArray} {own nm : String} {ret : Option FieldType}
theorem w_get {a c j idx dc ds : Nat} {fs : List Value} {v : Value} (hF : FX G cc nL own ret nm fr lc) (hg : GF G own idx c j) (ha : M a = some (.inr (c, fs))) (hv : fs[j]? = some v) (hd : decode cc pc = .ok (.getfield idx, 3)) (k1 : Sm G F nL (pc + 3) L (v :: st) M z dc ds) : Sm G F nL pc L (.ref a :: st) M z dc ds := by
  obtain ⟨⟨p, l, e, R, s, m, args, below, meth, c0⟩, A, D, dA, mi⟩ := G
  obtain ⟨hx, hb, hml, hown, hts, hr, hlk, hK, hnm, hfr, hlc⟩ := hF
  obtain ⟨C, T, N, ref, hc, hin, hj, hlink, hsame⟩ := hg
  intro H locs cells slots ls hl hW hS h1 h2 h3
  have hP : va_P D cl_ [(a, .inr (c, fs))] H := by
    intro i q hi
    cases i with
    | zero => cases hi; exact hW.cell ha
    | succ i => simp at hi
  rcases hlink with hlink | ⟨host, hlink⟩
  · exact va_get (ci := c) (v := v) (C := C) (T := T) (N := N) hx hb hts hin hown hK.1 hP 0 rfl hc j hj hlink hsame hv hd (k1 H locs cells slots ls hl hW hS h1 h2 h3)
  · exact va_getN (ci := c) (v := v) (C := C) (T := T) (N := N) hx hb hts hin hown hK.1 hP 0 rfl hc j hj hlink hsame hv hd (k1 H locs cells slots ls hl hW hS h1 h2 h3)
theorem s_geti {r : Option Nat} {j idx : Nat} {cs : List Nat} {kf : Int32 → Rs ρ} (hF : FX G cc nL own ret nm fr lc) (hg : ∀ c ∈ cs, GF G own idx c j) (hd : decode cc pc = .ok (.getfield idx, 3)) (k1 : ∀ v, SK G F nL enc (pc + 3) L (.int v :: st) M z (kf v)) : SK G F nL enc pc L (va_rf r :: st) M z ((gi M r cs j).bind kf) := by
  intro r9 dc ds hk he
  obtain ⟨v, hv, hkk⟩ := Option.bind_eq_some_iff.mp hk
  obtain ⟨fs, hfs, hvi⟩ := Option.bind_eq_some_iff.mp hv
  obtain ⟨a, c, rfl, hc, ha⟩ := fs_some hfs
  exact w_get hF (hg c hc) ha (vi_some hvi) hd (k1 v r9 dc ds hkk he)
theorem s_getr {r : Option Nat} {j idx : Nat} {cs : List Nat} {kf : Option Nat → Rs ρ} (hF : FX G cc nL own ret nm fr lc) (hg : ∀ c ∈ cs, GF G own idx c j) (hd : decode cc pc = .ok (.getfield idx, 3)) (k1 : ∀ v, SK G F nL enc (pc + 3) L (va_rf v :: st) M z (kf v)) : SK G F nL enc pc L (va_rf r :: st) M z ((gr M r cs j).bind kf) := by
  intro r9 dc ds hk he
  obtain ⟨v, hv, hkk⟩ := Option.bind_eq_some_iff.mp hk
  obtain ⟨fs, hfs, hvi⟩ := Option.bind_eq_some_iff.mp hv
  obtain ⟨a, c, rfl, hc, ha⟩ := fs_some hfs
  exact w_get hF (hg c hc) ha (vr_some hvi) hd (k1 v r9 dc ds hkk he)
theorem s_put {r : Option Nat} {j idx : Nat} {cs : List Nat} {v : Value} {kf : Mp → Rs ρ} (hF : FX G cc nL own ret nm fr lc) (hg : ∀ c ∈ cs, PF G own nm idx c j v) (hd : decode cc pc = .ok (.putfield idx, 3)) (k1 : ∀ M', SK G F nL enc (pc + 3) L st M' z (kf M')) : SK G F nL enc pc L (v :: va_rf r :: st) M z ((pu M r cs j v).bind kf) := by
  intro r9 dc ds hk he
  obtain ⟨M', hM, hkk⟩ := Option.bind_eq_some_iff.mp hk
  obtain ⟨a, c, fs, rfl, hcs, ha, hjl, rfl⟩ := pu_some hM
  have hg := hg c hcs
  obtain ⟨⟨p, l, e, R, s, m, args, below, meth, c0⟩, A, D, dA, mi⟩ := G
  obtain ⟨hx, hb, hml, hown, hts, hr, hlk, hK, hnm, hfr, hlc⟩ := hF
  obtain ⟨C, T, N, ref, ty, hc, hin, hj, hlink, hsame, hty, hn, hfit, hap⟩ := hg
  intro H locs cells slots ls hl hW hS h1 h2 h3
  obtain ⟨r', g1, cell, q1, q2, q3, q4⟩ := hW.cell ha
  have hr' : r' = (C, T, N) := Option.some.inj (g1.symm.trans hc)
  subst hr'
  obtain ⟨hSl, hfc, kC, hkC, hkind⟩ := hK.1.1 c _ hc
  obtain ⟨cf, kf', fi, f, hi, hsl⟩ := hSl j hj
  have hst := (u_facts hfc hkC (u_lays hts hin hj) hi).1
  have hend : ∀ H' : Heap, H'[a]? = some (cell.setSlot f.slot v) → H'.size = H.size → (∀ q, q ≠ a → H'[q]? = H[q]?) → W p l e R s m args below meth c0 H' (locs ++ [⟨a, f.slot⟩]) cells slots (MQ below (QR A D dA F.1 F.2.1 F.2.2) args s R.cells R.slots A) (F0 m (pc + 3) ls st) := by
    intro H' e1 e2 e3
    refine k1 _ r9 dc ds hkk he H' _ cells slots ls hl (hW.set ha e2 ?_ e3) (hS.put e2 e3 (hW.2.1 a _ ha).2) h1 h2 h3
    rw [hsl] at e1
    exact ⟨_, hc, t_OB.to (V := updV (vp_V fs) j v) ⟨_, e1, q2, q3, t_set q4 hap hj v⟩ (fun i _ => vp_updV_set hjl v i)⟩
  have hlay := hts _ (hin _ (u_in_lay hj))
  rcases hlink with ⟨hlink, hfin | ⟨hfin, hin2, hdecl⟩⟩ | ⟨hfin, host, hlink⟩
  · unfold u_lay at hlay
    rw [if_neg (by rw [hfin]; decide)] at hlay
    have h6 := u_store hfc hkC hkind hlay hi hty hn hfit
    exact W.putK hx hb (f := f) ⟨hown, hlink, ⟨_, _, _, hsame _ hi⟩, hst⟩ (by rw [q2]; exact h6) q1 q3 (by rw [hsl]; exact k2_hasslot (q4 j hj)) rfl rfl hd hend
  · unfold u_lay at hlay
    rw [if_pos hfin] at hlay
    have hcf : m.cls = cf := by
      obtain ⟨_, _, c', _, _, _, -, -, hf', -, -, -, hown2, -⟩ := Cond.laysFinal_spec hlay
      have e1 : c' = cf := by have := hi.symm.trans hf'; simp at this; exact this.1.symm
      rw [hdecl] at hown2
      rw [← e1]; exact Option.some.inj (hown.symm.trans hown2)
    have h6 := u_fits hfc hkC hkind (Or.inr hlay) hi hty hn hfit
    exact W.putFinK hx hb hown hlink (hsame _ hi) hst hcf (hnm.trans hin2) (by rw [q2]; exact h6) q1 q3 (by rw [hsl]; exact k2_hasslot (q4 j hj)) rfl rfl hd hend
  · unfold u_lay at hlay
    rw [if_neg (by rw [hfin]; decide)] at hlay
    have h6 := u_store hfc hkC hkind hlay hi hty hn hfit
    exact va_WputK hx hb (f := f) hown hlink (hsame _ hi) hst (by rw [q2]; exact h6) q1 q3 (by rw [hsl]; exact k2_hasslot (q4 j hj)) rfl rfl hd hend
theorem s_new {ci N idx : Nat} {C : String} {T : u_T} {fs : List Value} (hF : FX G cc nL own ret nm fr lc) (hc : cl_[ci]? = some (C, T, N)) (hin : ∀ w ∈ u_ws C T N, w ∈ lw_all) (ty : Nat → FieldType) (hty : ∀ k, k < N → parseFieldDescriptor (T k).2.2.1 = some (ty k)) (hcl : Cond.classLink own idx C ∈ lw_all) (hinst : Cond.instantiable C N ∈ lw_all) (hini : Cond.initialized C ∈ lw_all) (hfs : ∀ j, j < N → defaultValue (ty j) = vp_V fs j) (hd : decode cc pc = .ok (.new idx, 3))
    (k1 : SK G F nL enc (pc + 3) L (va_rf (some z) :: st) (va_up M z (some (.inr (ci, fs)))) (z + 1) k) : SK G F nL enc pc L st M z (cost 1 N k) := by
  intro r9 dc ds hk he
  obtain ⟨dc', ds', hkk, rfl, rfl⟩ := cost_some hk
  obtain ⟨⟨p, l, e, R, s, m, args, below, meth, c0⟩, A, D, dA, mi⟩ := G
  obtain ⟨hx, hb, hml, hown, hts, hr, hlk, hK, hnm, hfr, hlc⟩ := hF
  intro H locs cells slots ls hl hW hS h1 h2 h3
  have hKn := hK.1.1 ci _ hc
  refine W.newcK hx hb hown (hts _ hcl) (hts _ hinst) (hts _ hini) rfl hd (by omega) (by omega) hKn.2.1 rfl fun H1 kC hkC e1 z1 o1 => ?_
  have hz := hW.1
  have hat : va_at D cl_ (z, en dA (.inr (ci, fs))) H1 := ⟨_, hc, (u_born ty hts hin hKn hkC (by rw [hz] at e1; exact e1) hty).to hfs⟩
  have := k1 r9 dc' ds' hkk he H1 locs (cells + 1) (slots + N) ls hl (hW.push (by rw [z1]) hat o1) (hS.grow (by rw [z1]) o1) (by omega) (by omega) (by omega)
  rw [hz]
  exact this
theorem ai_some {kd : Nat} {r : Option Nat} {i x : Int32} (h : ai M kd r i = some x) : ∃ a n f, r = some a ∧ M a = some (.inl (kd, n, .inl f)) ∧ vp_in i n ∧ x = f i.toNatClampNeg := by
  unfold ai at h
  cases r with
  | none => cases h
  | some a =>
    simp only at h
    split at h
    · rename_i k9 n f hm
      split at h
      · rename_i hc
        cases h
        obtain ⟨rfl, hin⟩ := hc
        exact ⟨a, n, f, rfl, hm, hin, rfl⟩
      · cases h
    · cases h
theorem si_some {kd : Nat} {r : Option Nat} {i x : Int32} {M' : Mp} (h : si M kd r i x = some M') : ∃ a n f, r = some a ∧ M a = some (.inl (kd, n, .inl f)) ∧ vp_in i n ∧ M' = va_up M a (some (.inl (kd, n, .inl (upd f i.toNatClampNeg x)))) := by
  unfold si at h
  cases r with
  | none => cases h
  | some a =>
    simp only at h
    split at h
    · rename_i k9 n f hm
      split at h
      · rename_i hc
        cases h
        obtain ⟨rfl, hin⟩ := hc
        exact ⟨a, n, f, rfl, hm, hin, rfl⟩
      · cases h
    · cases h
theorem ar_some {kd : Nat} {r : Option Nat} {i : Int32} {x : Option Nat} (h : ar M kd r i = some x) : ∃ a n f, r = some a ∧ M a = some (.inl (kd, n, .inr (.inr (.inr (.inr f))))) ∧ vp_in i n ∧ x = f i.toNatClampNeg := by
  unfold ar at h
  cases r with
  | none => cases h
  | some a =>
    simp only at h
    split at h
    · rename_i k9 n f hm
      split at h
      · rename_i hc
        cases h
        obtain ⟨rfl, hin⟩ := hc
        exact ⟨a, n, f, rfl, hm, hin, rfl⟩
      · cases h
    · cases h
theorem sr_some {kd : Nat} {r : Option Nat} {i : Int32} {x : Option Nat} {M' : Mp} (h : sr M kd r i x = some M') : ∃ a n f, r = some a ∧ M a = some (.inl (kd, n, .inr (.inr (.inr (.inr f))))) ∧ vp_in i n ∧ isO M kd x = true ∧ M' = va_up M a (some (.inl (kd, n, .inr (.inr (.inr (.inr (va_up f i.toNatClampNeg x))))))) := by
  unfold sr at h
  cases r with
  | none => cases h
  | some a =>
    simp only at h
    split at h
    · rename_i k9 n f hm
      split at h
      · rename_i hc
        cases h
        obtain ⟨⟨rfl, hin⟩, ho⟩ := hc
        exact ⟨a, n, f, rfl, hm, hin, ho, rfl⟩
      · cases h
    · cases h
theorem s_iald {r : Option Nat} {i : Int32} {kf : Int32 → Rs ρ} (hF : FX G cc nL own ret nm fr lc) (hd : decode cc pc = .ok (.iaload, 1)) (k1 : ∀ v, SK G F nL enc (pc + 1) L (.int v :: st) M z (kf v)) : SK G F nL enc pc L (.int i :: va_rf r :: st) M z ((ai M 0 r i).bind kf) := by
  intro r9 dc ds hk he
  obtain ⟨v, hv, hkk⟩ := Option.bind_eq_some_iff.mp hk
  obtain ⟨a, n, f, rfl, ha, hin, rfl⟩ := ai_some hv
  obtain ⟨⟨p, l, e, R, s, m, args, below, meth, c0⟩, A, D, dA, mi⟩ := G
  obtain ⟨hx, hb, hml, hown, hts, hr, hlk, hK, hnm, hfr, hlc⟩ := hF
  intro H locs cells slots ls hl hW hS h1 h2 h3
  have hP : va_P D cl_ [(a, .inl (dA 0, n, .inl f))] H := by
    intro i q hi
    cases i with
    | zero => cases hi; exact hW.cell ha
    | succ i => simp at hi
  exact va_iald hx hb hK.1 hP 0 0 rfl rfl hin hd (k1 _ r9 dc ds hkk he H locs cells slots ls hl hW hS h1 h2 h3)
theorem s_zald {r : Option Nat} {i : Int32} {kf : Int32 → Rs ρ} (hF : FX G cc nL own ret nm fr lc) (hd : decode cc pc = .ok (.baload, 1)) (k1 : ∀ v, SK G F nL enc (pc + 1) L (.int v :: st) M z (kf v)) : SK G F nL enc pc L (.int i :: va_rf r :: st) M z ((ai M 1 r i).bind kf) := by
  intro r9 dc ds hk he
  obtain ⟨v, hv, hkk⟩ := Option.bind_eq_some_iff.mp hk
  obtain ⟨a, n, f, rfl, ha, hin, rfl⟩ := ai_some hv
  obtain ⟨⟨p, l, e, R, s, m, args, below, meth, c0⟩, A, D, dA, mi⟩ := G
  obtain ⟨hx, hb, hml, hown, hts, hr, hlk, hK, hnm, hfr, hlc⟩ := hF
  intro H locs cells slots ls hl hW hS h1 h2 h3
  have hP : va_P D cl_ [(a, .inl (dA 1, n, .inl f))] H := by
    intro i q hi
    cases i with
    | zero => cases hi; exact hW.cell ha
    | succ i => simp at hi
  exact va_zald hx hb hK.1 hP 0 1 rfl rfl hin hd (k1 _ r9 dc ds hkk he H locs cells slots ls hl hW hS h1 h2 h3)
theorem at_int {D : va_G} {dA : Nat → Nat} {kd n j a : Nat} {f : Nat → Int32} {x : Int32} {H1 : Heap} (e : H1[a]? = some ((vp_cell (dA kd) (n, .inl f)).setSlot j (.int x))) : va_at D cl_ (a, en dA (.inl (kd, n, .inl (upd f j x)))) H1 := by
  show H1[a]? = some (vp_cell _ _)
  rw [e, vp_cell_i, vp_cell_i, arrV_store]
  congr 2
  funext q
  by_cases hq : q = j
  · subst hq; simp [updV, upd]
  · simp [updV, upd, hq]
theorem s_iast {r : Option Nat} {i x : Int32} {kf : Mp → Rs ρ} (hF : FX G cc nL own ret nm fr lc) (hd : decode cc pc = .ok (.iastore, 1)) (k1 : ∀ M', SK G F nL enc (pc + 1) L st M' z (kf M')) : SK G F nL enc pc L (.int x :: .int i :: va_rf r :: st) M z ((si M 0 r i x).bind kf) := by
  intro r9 dc ds hk he
  obtain ⟨v, hv, hkk⟩ := Option.bind_eq_some_iff.mp hk
  obtain ⟨a, n, f, rfl, ha, hin, rfl⟩ := si_some hv
  obtain ⟨⟨p, l, e, R, s, m, args, below, meth, c0⟩, A, D, dA, mi⟩ := G
  obtain ⟨hx, hb, hml, hown, hts, hr, hlk, hK, hnm, hfr, hlc⟩ := hF
  intro H locs cells slots ls hl hW hS h1 h2 h3
  have hc : H[a]? = some (vp_cell (dA 0) (n, .inl f)) := hW.cell ha
  refine W.iast hx hb hc ((hK.1.2 0 (dA 0, .int) rfl).1 n (fun j => .int (f j))) (fun q => by cases q) (by show ¬ (i < 0 ∨ (arrV _ _ _).slots.size ≤ _); rw [arrV_size]; exact hin) rfl rfl hd fun H1 e z9 oq => ?_
  exact k1 _ r9 dc ds hkk he H1 _ cells slots ls hl (hW.set ha z9 (at_int e) oq) (hS.put z9 oq (hW.2.1 a _ ha).2) h1 h2 h3
theorem s_zast {r : Option Nat} {i x : Int32} {kf : Mp → Rs ρ} (hF : FX G cc nL own ret nm fr lc) (hv01 : x = 0 ∨ x = 1) (hd : decode cc pc = .ok (.bastore, 1)) (k1 : ∀ M', SK G F nL enc (pc + 1) L st M' z (kf M')) : SK G F nL enc pc L (.int x :: .int i :: va_rf r :: st) M z ((si M 1 r i x).bind kf) := by
  intro r9 dc ds hk he
  obtain ⟨v, hv, hkk⟩ := Option.bind_eq_some_iff.mp hk
  obtain ⟨a, n, f, rfl, ha, hin, rfl⟩ := si_some hv
  obtain ⟨⟨p, l, e, R, s, m, args, below, meth, c0⟩, A, D, dA, mi⟩ := G
  obtain ⟨hx, hb, hml, hown, hts, hr, hlk, hK, hnm, hfr, hlc⟩ := hF
  intro H locs cells slots ls hl hW hS h1 h2 h3
  have hc : H[a]? = some (vp_cell (dA 1) (n, .inl f)) := hW.cell ha
  have hnr : narrow .boolean (.int x) = .int x := by rcases hv01 with rfl | rfl <;> rfl
  refine W.zast hx hb hc ((hK.1.2 1 (dA 1, .boolean) rfl).1 n (fun j => .int (f j))) (fun q => by cases q) (by show ¬ (i < 0 ∨ (arrV _ _ _).slots.size ≤ _); rw [arrV_size]; exact hin) rfl rfl hd fun H1 e z9 oq => ?_
  rw [hnr] at e
  exact k1 _ r9 dc ds hkk he H1 _ cells slots ls hl (hW.set ha z9 (at_int e) oq) (hS.put z9 oq (hW.2.1 a _ ha).2) h1 h2 h3
theorem s_alen {r : Option Nat} {kf : Int32 → Rs ρ} (hF : FX G cc nL own ret nm fr lc) (hd : decode cc pc = .ok (.arraylength, 1)) (k1 : ∀ v, SK G F nL enc (pc + 1) L (.int v :: st) M z (kf v)) : SK G F nL enc pc L (va_rf r :: st) M z ((al M r).bind kf) := by
  intro r9 dc ds hk he
  obtain ⟨v, hv, hkk⟩ := Option.bind_eq_some_iff.mp hk
  unfold al at hv
  cases r with
  | none => cases hv
  | some a =>
  simp only at hv
  split at hv
  · rename_i k9 n x hm
    split at hv
    · rename_i hlt
      cases hv
      obtain ⟨⟨p, l, e, R, s, m, args, below, meth, c0⟩, A, D, dA, mi⟩ := G
      obtain ⟨hx, hb, hml, hown, hts, hr, hlk, hK, hnm, hfr, hlc⟩ := hF
      intro H locs cells slots ls hl hW hS h1 h2 h3
      have hP : va_P D cl_ [(a, .inl (dA k9, n, x))] H := by
        intro i q hi
        cases i with
        | zero => cases hi; exact hW.cell hm
        | succ i => simp at hi
      have kq := k1 _ r9 dc ds hkk he H locs cells slots ls hl hW hS h1 h2 h3
      have h4 : k9 = 0 ∨ k9 = 1 ∨ k9 = 2 ∨ k9 = 3 := (show ∀ q : Nat, q < 4 → q = 0 ∨ q = 1 ∨ q = 2 ∨ q = 3 by omega) k9 hlt
      rcases h4 with rfl | rfl | rfl | rfl
      · exact va_alen (v := Int32.ofNat n) hx hb hK.1 hP 0 0 rfl rfl rfl hd kq
      · exact va_alen (v := Int32.ofNat n) hx hb hK.1 hP 0 1 rfl rfl rfl hd kq
      · exact va_alen (v := Int32.ofNat n) hx hb hK.1 hP 0 2 rfl rfl rfl hd kq
      · exact va_alen (v := Int32.ofNat n) hx hb hK.1 hP 0 3 rfl rfl rfl hd kq
    · cases hv
  · cases hv
theorem s_aald {r : Option Nat} {i : Int32} (kd : Nat) (hkd : kd = 2 ∨ kd = 3) {kf : Option Nat → Rs ρ} (hF : FX G cc nL own ret nm fr lc) (hd : decode cc pc = .ok (.aaload, 1)) (k1 : ∀ v, SK G F nL enc (pc + 1) L (va_rf v :: st) M z (kf v)) : SK G F nL enc pc L (.int i :: va_rf r :: st) M z ((ar M kd r i).bind kf) := by
  intro r9 dc ds hk he
  obtain ⟨v, hv, hkk⟩ := Option.bind_eq_some_iff.mp hk
  obtain ⟨a, n, f, rfl, ha, hin, rfl⟩ := ar_some hv
  obtain ⟨⟨p, l, e, R, s, m, args, below, meth, c0⟩, A, D, dA, mi⟩ := G
  obtain ⟨hx, hb, hml, hown, hts, hr, hlk, hK, hnm, hfr, hlc⟩ := hF
  intro H locs cells slots ls hl hW hS h1 h2 h3
  have hP : va_P D cl_ [(a, .inl (dA kd, n, .inr (.inr (.inr (.inr f)))))] H := by
    intro i q hi
    cases i with
    | zero => cases hi; exact hW.cell ha
    | succ i => simp at hi
  rcases hkd with rfl | rfl
  · exact va_aldq hx hb hK.1 hP 0 2 rfl rfl hin hd (k1 _ r9 dc ds hkk he H locs cells slots ls hl hW hS h1 h2 h3)
  · exact va_aldq hx hb hK.1 hP 0 3 rfl rfl hin hd (k1 _ r9 dc ds hkk he H locs cells slots ls hl hW hS h1 h2 h3)
end SIM3
/-- every class of ours may stand where an Object is asked -/
theorem obj_ok {D : va_G} {dA : Nat → Nat} {mi : Nat} {s : State} (hK : Kx D dA mi s) {c : Nat} (hc : c < 13) : ∀ r : vw_C, cl_[c]? = some r → ∀ comp c0 : ClassId, s.vm.findClass "java/lang/Object" = some comp → s.vm.findClass r.1 = some c0 → s.vm.assignable c0 comp = true := by
  intro r hr comp c0 h1 h2
  have key : ∀ C : String, va_Nw (.castable C "java/lang/Object") s → s.vm.findClass C = some c0 → s.vm.assignable c0 comp = true := by
    intro C hw h3
    obtain ⟨c3, t3, w1, w2, w3⟩ := Cond.castable_spec hw
    cases h3.symm.trans w1
    cases h1.symm.trans w2
    exact w3
  have hN := hK.2.1
  match c, hc with
  | 0, _ => cases hr; exact key _ (hN _ n_q1361) h2
  | 1, _ => cases hr; exact key _ (hN _ n_q1363) h2
  | 2, _ => cases hr; exact key _ (hN _ n_q1365) h2
  | 3, _ => cases hr; exact key _ (hN _ n_q1364) h2
  | 4, _ => cases hr; exact key _ (hN _ n_q1367) h2
  | 5, _ => cases hr; exact key _ (hN _ n_q1368) h2
  | 6, _ => cases hr; exact key _ (hN _ n_q1360) h2
  | 7, _ => cases hr; exact key _ (hN _ n_q1369) h2
  | 8, _ => cases hr; exact key _ (hN _ n_q1370) h2
  | 9, _ => cases hr; exact key _ (hN _ n_q1371) h2
  | 10, _ => cases hr; exact key _ (hN _ n_q1372) h2
  | 11, _ => cases hr; exact key _ (hN _ n_q1362) h2
  | 12, _ => cases hr; exact key _ (hN _ n_q1366) h2
theorem cl_some {c : Nat} (hc : c < 13) : ∃ r, cl_[c]? = some r := ⟨cl_[c]'hc, List.getElem?_eq_getElem hc⟩
theorem any_ok {A : Nat → Prop} {D : va_G} {dA : Nat → Nat} {mi z : Nat} {s : State} {M : Mp} {H : Heap} (hK : Kx D dA mi s) (hW : Wd A D dA M z H) {y : Nat} {kd : Nat} (hkd : kd = 2 ∨ kd = 3) (h : isO M kd (some y) = true) : va_Any (if kd = 2 then "java/lang/Object" else "StoryColumns$Mark") s H y := by
  unfold isO at h
  simp only at h
  split at h
  · rename_i c fs hm
    simp only [Bool.and_eq_true, Bool.or_eq_true, decide_eq_true_eq] at h
    obtain ⟨hc, ho⟩ := h
    have hP : va_P D cl_ [(y, .inr (c, fs))] H := by
      intro i q hi
      cases i with
      | zero => cases hi; exact hW.cell hm
      | succ i => simp at hi
    obtain ⟨r, hr⟩ := cl_some hc
    rcases hkd with rfl | rfl
    · exact va_rAny (q0 := 0) (fs := fs) hK.1 hP rfl hr (obj_ok hK hc r hr)
    · have hc6 : c = 6 := by rcases ho with h | h; exact absurd h (by decide); exact h
      subst hc6
      cases hr
      refine va_rAny (q0 := 0) (ci := 6) (r := (RX6, TX6, 2)) (fs := fs) hK.1 hP rfl rfl (fun comp c0 e1 e2 => ?_)
      have e3 : comp = c0 := Option.some.inj (e1.symm.trans e2)
      subst e3
      exact va_asg _ _
  · cases h
theorem at_ref {D : va_G} {dA : Nat → Nat} {kd n j a : Nat} {f : Nat → Option Nat} {x : Option Nat} {H1 : Heap} (e : H1[a]? = some ((vp_cell (dA kd) (n, .inr (.inr (.inr (.inr f))))).setSlot j (va_rf x))) : va_at D cl_ (a, en dA (.inl (kd, n, .inr (.inr (.inr (.inr (va_up f j x))))))) H1 := by
  show H1[a]? = some (vp_cell _ _)
  rw [e, vp_cell_q, vp_cell_q, arrV_store]
  congr 2
  funext q
  by_cases hq : q = j
  · subst hq; simp [updV, va_up]
  · simp [updV, va_up, hq]
section SIM4
variable {G : Cx} {F : Option Value × Mp × Nat} {nL pc z fr lc : Nat} {ρ : Type} {enc : ρ → Option Value} {L : List (Option Value)} {st : List Value} {M : Mp} {k k2 : Rs ρ} {cc : ByteArray} {own nm : String} {ret : Option FieldType}
theorem s_aast {r x : Option Nat} {i : Int32} (kd : Nat) (hkd : kd = 2 ∨ kd = 3) {kf : Mp → Rs ρ} (hF : FX G cc nL own ret nm fr lc) (hd : decode cc pc = .ok (.aastore, 1)) (k1 : ∀ M', SK G F nL enc (pc + 1) L st M' z (kf M')) : SK G F nL enc pc L (va_rf x :: .int i :: va_rf r :: st) M z ((sr M kd r i x).bind kf) := by
  intro r9 dc ds hk he
  obtain ⟨v, hv, hkk⟩ := Option.bind_eq_some_iff.mp hk
  obtain ⟨a, n, f, rfl, ha, hin, ho, rfl⟩ := sr_some hv
  obtain ⟨⟨p, l, e, R, s, m, args, below, meth, c0⟩, A, D, dA, mi⟩ := G
  obtain ⟨hx, hb, hml, hown, hts, hr, hlk, hK, hnm, hfr, hlc⟩ := hF
  intro H locs cells slots ls hl hW hS h1 h2 h3
  have hc : H[a]? = some (vp_cell (dA kd) (n, .inr (.inr (.inr (.inr f))))) := hW.cell ha
  have hty : ∃ t0 : Nat, (tys_ dA)[t0]? = some (dA kd, FieldType.object (if kd = 2 then "java/lang/Object" else "StoryColumns$Mark")) := by
    rcases hkd with rfl | rfl
    · exact ⟨2, rfl⟩
    · exact ⟨3, rfl⟩
  obtain ⟨t0, ht0⟩ := hty
  have hin' : ¬ (i < 0 ∨ (vp_cell (dA kd) (n, .inr (.inr (.inr (.inr f))))).slots.size ≤ i.toNatClampNeg) := by show ¬ (i < 0 ∨ (arrV _ _ _).slots.size ≤ _); rw [arrV_size]; exact hin
  cases x with
  | none =>
    refine va_WaastN hx hb hc ((hK.1.2 t0 _ ht0).1 n (fun j => va_rf (f j))) (fun q => by cases q) hin' rfl rfl hd fun H1 e z9 oq => ?_
    exact k1 _ r9 dc ds hkk he H1 _ cells slots ls hl (hW.set ha z9 (at_ref (x := none) e) oq) (hS.put z9 oq (hW.2.1 a _ ha).2) h1 h2 h3
  | some y =>
    obtain ⟨cellV, g1, g3, ⟨kC, hkC⟩, hasg⟩ := any_ok hK hW hkd ho
    obtain ⟨kA, comp, k1', k2', k3', -⟩ := (hK.1.2 t0 _ ht0).2
    obtain ⟨kE, hkE, -⟩ := Vm.findClass_spec k3'
    refine W.aast hx hb hc (fun q h => by cases h) (fun h => by cases h) k1' k2' rfl hkE ⟨fun q => hin' (Or.inl q), Nat.not_le.mp fun q => hin' (Or.inr q)⟩ g1 (fun q h => by rw [h] at g3; cases g3) hkC (hasg _ k3') rfl rfl hd fun H1 e z9 oq => ?_
    exact k1 _ r9 dc ds hkk he H1 _ cells slots ls hl (hW.set ha z9 (at_ref (x := some y) e) oq) (hS.put z9 oq (hW.2.1 a _ ha).2) h1 h2 h3
/-- new int[n], new boolean[n] -/
theorem s_newi {n : Int32} (kd : Nat) (atype : ArrayType) (hkd : (kd = 0 ∧ atype = .int) ∨ (kd = 1 ∧ atype = .boolean)) (harr : Cond.arrayClass (newarray.typeOf atype) ∈ lw_all) (hF : FX G cc nL own ret nm fr lc) (hd : decode cc pc = .ok (.newarray atype, 2))
    (k1 : SK G F nL enc (pc + 2) L (va_rf (some z) :: st) (va_up M z (some (.inl (kd, n.toNatClampNeg, .inl (fun _ => 0))))) (z + 1) k) : SK G F nL enc pc L (.int n :: st) M z (if ¬ n < 0 ∧ n.toNatClampNeg ≤ 100000 then cost 1 n.toNatClampNeg k else none) := by
  refine SK.chk fun ⟨hn, hle⟩ => ?_
  intro r9 dc ds hk he
  obtain ⟨dc', ds', hkk, rfl, rfl⟩ := cost_some hk
  obtain ⟨⟨p, l, e, R, s, m, args, below, meth, c0⟩, A, D, dA, mi⟩ := G
  obtain ⟨hx, hb, hml, hown, hts, hr, hlk, hK, hnm, hfr, hlc⟩ := hF
  intro H locs cells slots ls hl hW hS h1 h2 h3
  have hz := hW.1
  have hby : n.toNatClampNeg * componentBytes (newarray.typeOf atype) ≤ 536870912 := by
    rcases hkd with ⟨-, rfl⟩ | ⟨-, rfl⟩
    · show n.toNatClampNeg * 4 ≤ 536870912; omega
    · show n.toNatClampNeg * 1 ≤ 536870912; omega
  refine va_newaK hx hb (hts _ harr) rfl hd rfl hn rfl hby (by omega) (by omega) rfl fun H1 cA e1 z1 o1 hAr hNm => ?_
  have hcA : cA = dA kd := by
    rcases hkd with ⟨rfl, rfl⟩ | ⟨rfl, rfl⟩
    · exact Option.some.inj (hNm.symm.trans (hK.1.2 0 (dA 0, .int) rfl).2)
    · exact Option.some.inj (hNm.symm.trans (hK.1.2 1 (dA 1, .boolean) rfl).2)
  have hat : va_at D cl_ (z, en dA (.inl (kd, n.toNatClampNeg, .inl (fun _ => 0)))) H1 := by
    show H1[z]? = some (vp_cell _ _)
    rw [← hz, e1, hcA]
    rcases hkd with ⟨-, rfl⟩ | ⟨-, rfl⟩ <;> rfl
  have := k1 r9 dc' ds' hkk he H1 locs (cells + 1) (slots + n.toNatClampNeg) ls hl (hW.push (by rw [z1]) hat o1) (hS.grow (by rw [z1]) o1) (by omega) (by omega) (by omega)
  rw [hz]
  exact this
/-- new Object[n], new Mark[n] -/
theorem s_newq {n : Int32} {idx : Nat} (kd : Nat) (C : String) (hkd : (kd = 2 ∧ C = "java/lang/Object") ∨ (kd = 3 ∧ C = "StoryColumns$Mark")) (hcl : Cond.classLink own idx C ∈ lw_all) (hF : FX G cc nL own ret nm fr lc) (hd : decode cc pc = .ok (.anewarray idx, 3))
    (k1 : SK G F nL enc (pc + 3) L (va_rf (some z) :: st) (va_up M z (some (.inl (kd, n.toNatClampNeg, .inr (.inr (.inr (.inr (fun _ => none)))))))) (z + 1) k) : SK G F nL enc pc L (.int n :: st) M z (if ¬ n < 0 ∧ n.toNatClampNeg ≤ 100000 then cost 1 n.toNatClampNeg k else none) := by
  refine SK.chk fun ⟨hn, hle⟩ => ?_
  intro r9 dc ds hk he
  obtain ⟨dc', ds', hkk, rfl, rfl⟩ := cost_some hk
  obtain ⟨⟨p, l, e, R, s, m, args, below, meth, c0⟩, A, D, dA, mi⟩ := G
  obtain ⟨hx, hb, hml, hown, hts, hr, hlk, hK, hnm, hfr, hlc⟩ := hF
  intro H locs cells slots ls hl hW hS h1 h2 h3
  have hz := hW.1
  have hAO : va_AO C s := by
    rcases hkd with ⟨-, rfl⟩ | ⟨-, rfl⟩
    · exact hK.2.2.2.2.1
    · exact hK.2.2.2.2.2.1
  refine W.anew hx hb hown (hts _ hcl) (va_AO.use hAO) rfl hd rfl hn (by omega) (by omega) (by omega) fun cA kA comp f1 f2 f3 f4 => ?_
  generalize hH1 : H.push ({ cls := cA, slots := Array.replicate n.toNatClampNeg .null, vm := .none } : Cell) = H1
  have z1 : H1.size = H.size + 1 := by rw [← hH1, Array.size_push]
  have e1 : H1[H.size]? = some (arrV cA n.toNatClampNeg (fun _ => .null)) := by rw [← hH1, Array.getElem?_push_size, ← arrV_new]
  have o1 : ∀ q : Nat, q < H.size → H1[q]? = H[q]? := fun q hq => by rw [← hH1, Array.getElem?_push, if_neg (Nat.ne_of_lt hq)]
  have hcA : cA = dA kd := by
    rcases hkd with ⟨rfl, rfl⟩ | ⟨rfl, rfl⟩
    · obtain ⟨_, _, _, _, _, h9⟩ := (hK.1.2 2 (dA 2, .object "java/lang/Object") rfl).2
      exact Option.some.inj (f1.symm.trans h9)
    · obtain ⟨_, _, _, _, _, h9⟩ := (hK.1.2 3 (dA 3, .object "StoryColumns$Mark") rfl).2
      exact Option.some.inj (f1.symm.trans h9)
  have hat : va_at D cl_ (z, en dA (.inl (kd, n.toNatClampNeg, .inr (.inr (.inr (.inr (fun _ => none))))))) H1 := by
    show H1[z]? = some (vp_cell _ _)
    rw [← hz, e1, hcA]
    rfl
  have := k1 r9 dc' ds' hkk he H1 locs (cells + 1) (slots + n.toNatClampNeg) ls hl (hW.push (by rw [z1]) hat o1) (hS.grow (by rw [z1]) o1) (by omega) (by omega) (by omega)
  rw [hz]
  exact this
/-- checkcast: cs are classes that may stand where nm9 is asked -/
theorem s_cast {r : Option Nat} {idx : Nat} {nm9 : String} {cs : List Nat} (hF : FX G cc nL own ret nm fr lc) (hcl : Cond.classLink own idx nm9 ∈ lw_all) (hcs : ∀ c ∈ cs, ∃ q : vw_C, cl_[c]? = some q ∧ (q.1 = nm9 ∨ Cond.castable q.1 nm9 ∈ NW)) (hd : decode cc pc = .ok (.checkcast idx, 3)) (k1 : SK G F nL enc (pc + 3) L (va_rf r :: st) M z k) : SK G F nL enc pc L (va_rf r :: st) M z (if cst M r cs = true then k else none) := by
  refine SK.chk fun hc => ?_
  intro r9 dc ds hk he
  have k1 := k1 r9 dc ds hk he
  obtain ⟨⟨p, l, e, R, s, m, args, below, meth, c0⟩, A, D, dA, mi⟩ := G
  obtain ⟨hx, hb, hml, hown, hts, hr, hlk, hK, hnm, hfr, hlc⟩ := hF
  intro H locs cells slots ls hl hW hS h1 h2 h3
  have kq := k1 H locs cells slots ls hl hW hS h1 h2 h3
  cases r with
  | none => exact lv_castN hx hb hd kq
  | some a =>
    unfold cst at hc
    simp only at hc
    split at hc
    · rename_i c hcf
      obtain ⟨a', fs, e', hm⟩ := cf_some hcf
      cases e'
      obtain ⟨q, hq, hor⟩ := hcs c (of_decide_eq_true hc)
      have hP : va_P D cl_ [(a, .inr (c, fs))] H := by
        intro i q hi
        cases i with
        | zero => cases hi; exact hW.cell hm
        | succ i => simp at hi
      have hrec := va_recv hK.1 hP hq (q0 := 0) rfl
      rcases hor with hor | hor
      · rw [hor] at hrec
        exact va_castS hx hb hown (hts _ hcl) (hor ▸ (hK.1.1 c q hq).2) hrec hd kq
      · exact va_castY hx hb hown (hts _ hcl) (hK.2.1 _ hor) hrec hd kq
    · cases hc
/-- instanceof Head -/
theorem s_inst {r : Option Nat} {idx : Nat} {kf : Int32 → Rs ρ} (hF : FX G cc nL own ret nm fr lc) (hcl : Cond.classLink own idx "StoryColumns$Head" ∈ lw_all) (hd : decode cc pc = .ok (.instanceof idx, 3)) (k1 : ∀ v, SK G F nL enc (pc + 3) L (.int v :: st) M z (kf v)) : SK G F nL enc pc L (va_rf r :: st) M z ((isH M r).bind kf) := by
  intro r9 dc ds hk he
  obtain ⟨v, hv, hkk⟩ := Option.bind_eq_some_iff.mp hk
  have k1 := k1 v r9 dc ds hkk he
  obtain ⟨⟨p, l, e, R, s, m, args, below, meth, c0⟩, A, D, dA, mi⟩ := G
  obtain ⟨hx, hb, hml, hown, hts, hr, hlk, hK, hnm, hfr, hlc⟩ := hF
  intro H locs cells slots ls hl hW hS h1 h2 h3
  have kq := k1 H locs cells slots ls hl hW hS h1 h2 h3
  unfold isH at hv
  cases r with
  | none => cases hv; exact lv_instN hx hb hd kq
  | some a =>
    simp only at hv
    have one : ∀ c fs, M a = some (.inr (c, fs)) → ∀ q : vw_C, cl_[c]? = some q → ∃ cell : Cell, H[a]? = some cell ∧ cell.vm.isStatics = false ∧ s.vm.findClass q.1 = some cell.cls := by
      intro c fs hm q hq
      have hP : va_P D cl_ [(a, .inr (c, fs))] H := by
        intro i q hi
        cases i with
        | zero => cases hi; exact hW.cell hm
        | succ i => simp at hi
      exact va_recv hK.1 hP hq (q0 := 0) rfl
    split at hv
    · rename_i hcf
      cases hv
      obtain ⟨a', fs, e', hm⟩ := cf_some hcf
      cases e'
      exact va_instNo hx hb hown (hts _ hcl) hK.2.2.2.1 (one 2 fs hm (RX2, TX2, 13) rfl) hd kq
    · rename_i hcf
      cases hv
      obtain ⟨a', fs, e', hm⟩ := cf_some hcf
      cases e'
      exact va_instS hx hb hown (hts _ hcl) (hK.1.1 3 (RX3, TX3, 14) rfl).2 (one 3 fs hm (RX3, TX3, 14) rfl) hd kq
    · cases hv
end SIM4
