set_option maxRecDepth 100000
/-! ===== METHODS AND CALLS ===== -/
def PcX (D : va_G) (dA : Nat → Nat) (mi : Nat) (A : Nat → Prop) (M : Mp) (z : Nat) (av : List Value) : Array Value → State → Prop := va_Pc av (fun U => Kx D dA mi U ∧ Wd A D dA M z U.heap)
theorem PcX.blind {D : va_G} {dA : Nat → Nat} {mi : Nat} {A : Nat → Prop} {M : Mp} {z : Nat} {av : List Value} : FrameBlind (PcX D dA mi A M z av) := fun a U g mk q => ⟨q.1, Kx.same (s := U) (U := U.calling g mk a) rfl q.2.1, q.2.2⟩
/-- method y, called with av, does what f says: answer, world, cells and slots made -/
def MT (y : MethodName) (bytes : ByteArray) (maxL : Nat) (rt : Option FieldType) (fr lc : Nat) {ρ : Type} (enc : ρ → Option Value) (av : List Value) (f : Mp → Nat → Rs ρ) : Prop :=
  ∀ (l : Launch) (A : Nat → Prop) (D : va_G) (dA : Nat → Nat) (mi : Nat) (M : Mp) (z : Nat) (r : ρ) (M' : Mp) (dc ds : Nat), f M z = some (r, M', dc, ds) → Met l y (ws_ y bytes maxL rt) ({ frames := fr, cells := dc, slots := ds, locals := lc } : Room) (PcX D dA mi A M z av) (QR A D dA (enc r) M' (z + dc)) dc ds A
theorem ok_sl : ∀ av : List Value, okst av → lg_sl av = av.map Slot.val
  | [], _ => rfl
  | v :: t, h => by
    have := ok_sl t h.2
    unfold lg_sl at this ⊢
    rw [List.flatMap_cons, this, if_neg (by rw [h.1]; decide)]
    rfl
theorem ok_args : ∀ (av : List Value) (i : Nat), okst av → ∀ (j : Nat) (v : Value), av[j]? = some v → (i + j, v) ∈ lv_args i av
  | [], _, _, j, v, h => by simp at h
  | w :: t, i, hk, j, v, h => by
    unfold lv_args
    rw [if_neg (by rw [hk.1]; decide)]
    cases j with
    | zero => cases h; exact List.mem_cons_self
    | succ j =>
      have := ok_args t (i + 1) hk.2 j v (by simpa using h)
      rw [show i + 1 + j = i + (j + 1) by omega] at this
      exact List.mem_cons_of_mem _ this
theorem ok_cat : ∀ (av : List Value), okst av → ∀ (j : Nat) (v : Value), av[j]? = some v → v.category = 1
  | [], _, j, v, h => by simp at h
  | w :: t, hk, j, v, h => by
    cases j with
    | zero => cases h; exact hk.1
    | succ j => exact ok_cat t hk.2 j v (by simpa using h)
theorem lo_entry {av : List Value} {n : Nat} {L0 : List (Option Value)} (hk : okst av) (hn : av.length ≤ n) (h0 : av.map some ++ List.replicate (n - av.length) none = L0) : lo ((lg_sl av ++ List.replicate (n - (lg_sl av).length) Slot.unset).toArray) n L0 := by
  have hlen : (lg_sl av).length = av.length := by rw [ok_sl av hk, List.length_map]
  have h := lv_entry av (n := n) (by rw [hlen]; exact hn)
  refine ⟨h.1, h.2.1, fun i v hi => ?_⟩
  subst h0
  by_cases hl : i < av.length
  · rw [List.getElem?_append_left (by simpa using hl), List.getElem?_map] at hi
    cases hq : av[i]? with
    | none => rw [hq] at hi; cases hi
    | some w =>
      rw [hq] at hi
      cases hi
      have := ok_args av 0 hk i v hq
      rw [Nat.zero_add] at this
      exact ⟨h.2.2 (i, v) this, ok_cat av hk i v hq⟩
  · rw [List.getElem?_append_right (by simp; omega)] at hi
    simp [List.getElem?_replicate] at hi
theorem MT.of {y : MethodName} {cc : ByteArray} {nL : Nat} {rt : Option FieldType} {fr lc : Nat} {ρ : Type} {enc : ρ → Option Value} {av : List Value} {f : Mp → Nat → Rs ρ} {L0 : List (Option Value)} (hy : plainName y.cls = true) (hk : okst av) (hn : av.length ≤ nL) (h0 : av.map some ++ List.replicate (nL - av.length) none = L0)
    (h : ∀ (G : Cx) (F : Option Value × Mp × Nat), FX G cc nL y.cls rt y.name fr lc → ∀ (M : Mp) (z : Nat), SK G F nL enc 0 L0 [] M z (f M z)) : MT y cc nL rt fr lc enc av f := by
  intro l A D dA mi M z r M' dc ds hf
  refine Met.ofW (cc := cc) (maxL := nL) (ret := rt) hy rfl ?_
  intro p e s m args below meth c s₁ B hml hv
  obtain ⟨rfl, hK, hW⟩ := hv
  have hts := atoms_spec (ws := ws_ y cc nL rt) B.pre
  have hts : ∀ w ∈ lw_all, w.before _ s = true := fun w h => hts w (List.mem_cons_of_mem _ h)
  have := h ((p, l, e, (headSpec (ws_ y cc nL rt) ({ frames := fr, cells := dc, slots := ds, locals := lc } : Room)).room, s, m, av.toArray, below, meth, c), A, D, dA, mi) (enc r, M', z + dc)
    ⟨B.exec, B.bytes, hml, findClass_of_methodNamed B.named, hts, B.returns, B.notSynchronized, hK, (name_of_methodNamed B.named B.method).1, Nat.le_refl _, Nat.le_refl _⟩ M z r dc ds hf rfl s.heap [] 0 0 _ (lo_entry hk hn h0) hW va_S.rf (Nat.zero_add _) (Nat.zero_add _) rfl
  rw [lg_entry_eq]
  exact this
def ckc (M : Mp) (r : Option Nat) (cs : List Nat) : Bool := match cf M r with
  | some c => decide (c ∈ cs)
  | none => false
theorem ckc_some {M : Mp} {r : Option Nat} {cs : List Nat} (h : ckc M r cs = true) : ∃ a c fs, r = some a ∧ c ∈ cs ∧ M a = some (.inr (c, fs)) := by
  unfold ckc at h
  split at h
  · rename_i c hc
    obtain ⟨a, fs, e, hm⟩ := cf_some hc
    exact ⟨a, c, fs, e, of_decide_eq_true h, hm⟩
  · cases h
theorem cb_some {α ρ : Type} {x : Rs α} {z : Nat} {kf : α → Mp → Nat → Rs ρ} {r : ρ} {M : Mp} {dc ds : Nat} (h : cb x z kf = some (r, M, dc, ds)) : ∃ r1 M1 dc1 ds1 dc2 ds2, x = some (r1, M1, dc1, ds1) ∧ kf r1 M1 (z + dc1) = some (r, M, dc2, ds2) ∧ dc = dc1 + dc2 ∧ ds = ds1 + ds2 := by
  unfold cb at h
  obtain ⟨⟨r1, M1, c1, s1⟩, hx, h⟩ := Option.bind_eq_some_iff.mp h
  obtain ⟨c2, s2, h1, h2, h3⟩ := cost_some h
  exact ⟨r1, M1, c1, s1, c2, s2, hx, h1, h2, h3⟩
theorem Wd.recv {A : Nat → Prop} {D : va_G} {dA : Nat → Nat} {mi : Nat} {M : Mp} {z : Nat} {H : Heap} {s : State} (hK : Kx D dA mi s) (hW : Wd A D dA M z H) {a c : Nat} {fs : List Value} (hm : M a = some (.inr (c, fs))) {q : vw_C} (hq : cl_[c]? = some q) : ∃ cell : Cell, H[a]? = some cell ∧ cell.vm.isStatics = false ∧ s.vm.findClass q.1 = some cell.cls := by
  have hP : va_P D cl_ [(a, .inr (c, fs))] H := by
    intro i q hi
    cases i with
    | zero => cases hi; exact hW.cell hm
    | succ i => simp at hi
  exact va_recv hK.1 hP hq (q0 := 0) rfl
theorem hroom {m : MethodId} {pc : Nat} {ls : Array Slot} {st st0 : List Value} (h : okst st) (hl : st.length ≤ 8) : 2 * (F0 m pc ls st0).monitorRoom + (st.map fun v => v.category).sum ≤ 8 := lv_room (by rw [okst_sum st h]; exact hl)
theorem oi_inst : Cond.instanceMethod objectInit ∈ lw_all := q86
theorem oi_code : Cond.code objectInit ⟨#[0xb1]⟩ 1 none ∈ lw_all := q87
def nwo {ρ : Type} (ci N : Nat) (fs : List Value) (M : Mp) (z : Nat) (kf : Mp → Nat → Rs ρ) : Rs ρ := cost 1 N (kf (va_up M z (some (.inr (ci, fs)))) (z + 1))
def nwi {ρ : Type} (kd : Nat) (n : Int32) (M : Mp) (z : Nat) (kf : Mp → Nat → Rs ρ) : Rs ρ := if ¬ n < 0 ∧ n.toNatClampNeg ≤ 100000 then cost 1 n.toNatClampNeg (kf (va_up M z (some (.inl (kd, n.toNatClampNeg, .inl (fun _ => 0))))) (z + 1)) else none
def nwq {ρ : Type} (kd : Nat) (n : Int32) (M : Mp) (z : Nat) (kf : Mp → Nat → Rs ρ) : Rs ρ := if ¬ n < 0 ∧ n.toNatClampNeg ≤ 100000 then cost 1 n.toNatClampNeg (kf (va_up M z (some (.inl (kd, n.toNatClampNeg, .inr (.inr (.inr (.inr (fun _ => none)))))))) (z + 1)) else none
section CALLS
variable {G : Cx} {F : Option Value × Mp × Nat} {nL pc z fr lc : Nat} {ρ α : Type} {enc : ρ → Option Value} {enc1 : α → Option Value} {L : List (Option Value)} {st : List Value} {M : Mp} {cc bytes : ByteArray} {own nm : String} {ret rt : Option FieldType} {y : MethodName} {maxL fr1 lc1 idx n : Nat} {As : List Value} {f : Mp → Nat → Rs α} {kf : α → Mp → Nat → Rs ρ} {stf : α → List Value}
/-- behind a call -/
theorem sm_back {p : Program} {l : Launch} {e : Env} {R : Room} {s : State} {m : MethodId} {args : Array Value} {below : List Frame} {meth : Method} {c : Code} {A : Nat → Prop} {D : va_G} {dA : Nat → Nat} {mi : Nat} {H : Heap} {locs : List Loc} {cells slots dc1 ds1 dc2 ds2 dc ds len : Nat} {ls : Array Slot} {st0 : List Value} {v1 : Option Value} {M1 : Mp} {a' : Array Value}
    (hr : ∀ T : State, T.heap = H → Stand p l e R s m args below meth c T locs cells slots → ∃ (v : Option Value) (st₀ t T' : State) (L : List Loc), st₀.heap = H ∧ Stand p l e R s m args below meth c T' (locs ++ L) (cells + dc1) (slots + ds1) ∧ (∀ q ∈ L, A q.base) ∧ T'.heap = t.heap ∧ T'.vm = t.vm ∧ QR A D dA v1 M1 (z + dc1) a' st₀ (.returned v) t ∧
      Goes p e below T (F0 m pc ls st0) T' { F0 m pc ls st0 with pc := pc + len, stack := v.toList ++ st })
    (k1 : Sm ((p, l, e, R, s, m, args, below, meth, c), A, D, dA, mi) F nL (pc + len) L (v1.toList ++ st) M1 (z + dc1) dc2 ds2) (hl : lo ls nL L) (hS : va_S A s.heap H locs) (h1 : cells + dc = R.cells) (h2 : slots + ds = R.slots) (h3 : z + dc = F.2.2) (e1 : dc = dc1 + dc2) (e2 : ds = ds1 + ds2) :
    W p l e R s m args below meth c H locs cells slots (MQ below (QR A D dA F.1 F.2.1 F.2.2) args s R.cells R.slots A) (F0 m pc ls st0) := by
  intro T hT X
  obtain ⟨v, st₀, t, T', L', h0, X', hL, g1, g2, ⟨hv, hWd, hFr⟩, go⟩ := hr T hT X
  cases hv
  have hz : H.size ≤ T'.heap.size := by rw [g1, ← h0]; exact hFr.1
  obtain ⟨t2, a1, b1⟩ := k1 T'.heap (locs ++ L') (cells + dc1) (slots + ds1) ls hl (by rw [g1]; exact hWd)
    ⟨Nat.le_trans hS.1 hz, fun q q1 q2 => by rw [g1, hFr.2 q (by rw [h0]; exact Nat.lt_of_lt_of_le q1 hS.1) q2, h0]; exact hS.2.1 q q1 q2, fun q hq => by
      rcases List.mem_append.mp hq with h | h
      · exact hS.2.2 q h
      · exact hL q h⟩ (by omega) (by omega) (by omega) T' rfl X'
  exact ⟨t2, go t2 a1, b1⟩
/-- the words of a method that is called -/
def CWm (y : MethodName) (bytes : ByteArray) (maxL : Nat) (rt : Option FieldType) (n : Nat) : Prop := Cond.code y bytes maxL rt ∈ lw_all ∧ Cond.initialized y.cls ∈ lw_all ∧ y.cls ≠ "java/lang/invoke/MethodHandle" ∧ y.cls ≠ "java/lang/invoke/VarHandle" ∧ (parseMethodDescriptor y.desc).map (fun d => d.parameters.length) = some n
theorem s_callV {ro : Option Nat} {cs : List Nat} (hF : FX G cc nL own ret nm fr lc) (hM : MT y bytes maxL rt fr1 lc1 enc1 (va_rf ro :: As) f) (hw : CWm y bytes maxL rt n) (hl1 : Cond.methodLink own idx y ∈ lw_all) (hin : Cond.instanceMethod y ∈ lw_all) (hcs : ∀ c ∈ cs, ∃ q : vw_C, cl_[c]? = some q ∧ Cond.selects q.1 y y ∈ lw_all) (hAs : As.length = n) (hR : fr1 + 1 ≤ fr ∧ 8 + (maxL + 11) + lc1 ≤ lc) (hst : okst st ∧ st.length ≤ 8) (hd : decode cc pc = .ok (.invokevirtual idx, 3)) {st0 : List Value} (hs0 : st0 = As.reverse ++ va_rf ro :: st) (hs : ∀ r, (enc1 r).toList ++ st = stf r)
    (k1 : ∀ r M' z', SK G F nL enc (pc + 3) L (stf r) M' z' (kf r M' z')) : SK G F nL enc pc L st0 M z (if ckc M ro cs = true then cb (f M z) z kf else none) := by
  refine SK.chk fun hc => ?_
  intro r9 dc ds hk he
  obtain ⟨r1, M1, dc1, ds1, dc2, ds2, hx1, hk2, e1, e2⟩ := cb_some hk
  have kk := k1 r1 M1 (z + dc1) r9 dc2 ds2 hk2 he
  rw [← hs r1] at kk
  obtain ⟨⟨p, l, e, R, s, m, args, below, meth, c0⟩, A, D, dA, mi⟩ := G
  obtain ⟨hx, hb, hml, hown, hts, hr, hlk, hK, hnm, hfr, hlc⟩ := hF
  intro H locs cells slots ls hl hW hS h1 h2 h3
  have hMet := hM l A D dA mi M z r1 M1 dc1 ds1 hx1
  obtain ⟨a, c, fs, rfl, hcc, hm⟩ := ckc_some hc
  obtain ⟨q, hq, hsel⟩ := hcs c hcc
  have hcB := callB_of (R := R) (own := own) (index := idx) (rm := { frames := fr1, cells := dc1, slots := ds1, locals := lc1 }) (mc := dc1) (ms := ds1) n hts (lw_meth hw.1) rfl rfl rfl (hts _ hw.2.1) (hts _ hl1) hw.2.2 ⟨Nat.le_trans hR.1 hfr, Nat.le_trans hR.2 hlc⟩
  exact sm_back (len := 3) (va_runV (As := As) (rest := st) (b := a) ⟨hx, hb, hml, hown, hts⟩ hMet ⟨hcB, hts _ hin, hts _ hsel⟩ ⟨PcX.blind, hW.recv hK hm hq, fun U hU hWm => ⟨rfl, hK.warm hWm, by rw [hU]; exact hW⟩⟩ rfl hAs hl.1 hs0 (hroom hst.1 hst.2) hd ⟨by omega, by omega⟩) kk hl hS h1 h2 h3 e1 e2
theorem s_callS (hF : FX G cc nL own ret nm fr lc) (hM : MT y bytes maxL rt fr1 lc1 enc1 As f) (hw : CWm y bytes maxL rt n) (hl1 : Cond.methodLink own idx y ∈ lw_all) (hin : Cond.static y ∈ lw_all) (hAs : As.length = n) (hR : fr1 + 1 ≤ fr ∧ 8 + (maxL + 11) + lc1 ≤ lc) (hst : okst st ∧ st.length ≤ 8) (hd : decode cc pc = .ok (.invokestatic idx, 3)) {st0 : List Value} (hs0 : st0 = As.reverse ++ st) (hs : ∀ r, (enc1 r).toList ++ st = stf r)
    (k1 : ∀ r M' z', SK G F nL enc (pc + 3) L (stf r) M' z' (kf r M' z')) : SK G F nL enc pc L st0 M z (cb (f M z) z kf) := by
  intro r9 dc ds hk he
  obtain ⟨r1, M1, dc1, ds1, dc2, ds2, hx1, hk2, e1, e2⟩ := cb_some hk
  have kk := k1 r1 M1 (z + dc1) r9 dc2 ds2 hk2 he
  rw [← hs r1] at kk
  obtain ⟨⟨p, l, e, R, s, m, args, below, meth, c0⟩, A, D, dA, mi⟩ := G
  obtain ⟨hx, hb, hml, hown, hts, hr, hlk, hK, hnm, hfr, hlc⟩ := hF
  intro H locs cells slots ls hl hW hS h1 h2 h3
  have hMet := hM l A D dA mi M z r1 M1 dc1 ds1 hx1
  have hcB := callB_of (R := R) (own := own) (index := idx) (rm := { frames := fr1, cells := dc1, slots := ds1, locals := lc1 }) (mc := dc1) (ms := ds1) n hts (lw_meth hw.1) rfl rfl rfl (hts _ hw.2.1) (hts _ hl1) hw.2.2 ⟨Nat.le_trans hR.1 hfr, Nat.le_trans hR.2 hlc⟩
  exact sm_back (len := 3) (va_runS (As := As) (rest := st) ⟨hx, hb, hml, hown, hts⟩ hMet ⟨hcB, hts _ hin⟩ ⟨PcX.blind, fun U hU hWm => ⟨rfl, hK.warm hWm, by rw [hU]; exact hW⟩⟩ rfl hAs hl.1 hs0 (hroom hst.1 hst.2) hd ⟨by omega, by omega⟩) kk hl hS h1 h2 h3 e1 e2
theorem s_callI {a : Nat} (hF : FX G cc nL own ret nm fr lc) (hM : MT y bytes maxL none fr1 lc1 enc1 (va_rf (some a) :: As) f) (hw : CWm y bytes maxL none n) (hl1 : Cond.methodLink own idx y ∈ lw_all) (hin : Cond.instanceMethod y ∈ lw_all) (hini : y.name = "<init>") (hAs : As.length = n) (hR : fr1 + 1 ≤ fr ∧ 8 + (maxL + 11) + lc1 ≤ lc) (hst : okst st ∧ st.length ≤ 8) (hd : decode cc pc = .ok (.invokespecial idx, 3)) {st0 : List Value} (hs0 : st0 = As.reverse ++ va_rf (some a) :: st) (hs : ∀ r, (enc1 r).toList ++ st = stf r)
    (k1 : ∀ r M' z', SK G F nL enc (pc + 3) L (stf r) M' z' (kf r M' z')) : SK G F nL enc pc L st0 M z (cb (f M z) z kf) := by
  intro r9 dc ds hk he
  obtain ⟨r1, M1, dc1, ds1, dc2, ds2, hx1, hk2, e1, e2⟩ := cb_some hk
  have kk := k1 r1 M1 (z + dc1) r9 dc2 ds2 hk2 he
  rw [← hs r1] at kk
  obtain ⟨⟨p, l, e, R, s, m, args, below, meth, c0⟩, A, D, dA, mi⟩ := G
  obtain ⟨hx, hb, hml, hown, hts, hr, hlk, hK, hnm, hfr, hlc⟩ := hF
  intro H locs cells slots ls hl hW hS h1 h2 h3
  have hMet := hM l A D dA mi M z r1 M1 dc1 ds1 hx1
  have hcB := callB_of (R := R) (own := own) (index := idx) (rm := { frames := fr1, cells := dc1, slots := ds1, locals := lc1 }) (mc := dc1) (ms := ds1) n hts (lw_meth hw.1) rfl rfl rfl (hts _ hw.2.1) (hts _ hl1) hw.2.2 ⟨Nat.le_trans hR.1 hfr, Nat.le_trans hR.2 hlc⟩
  exact sm_back (len := 3) (va_runI (As := As) (rest := st) (b := a) ⟨hx, hb, hml, hown, hts⟩ hMet ⟨hcB, hini, hts _ hin⟩ ⟨PcX.blind, fun U hU hWm => ⟨rfl, hK.warm hWm, by rw [hU]; exact hW⟩⟩ rfl hAs hl.1 hs0 (hroom hst.1 hst.2) hd ⟨by omega, by omega⟩) kk hl hS h1 h2 h3 e1 e2
/-- a constructor on 'this', which a caller holds as a reference that may be null -/
theorem s_callJ {ro : Option Nat} (hF : FX G cc nL own ret nm fr lc) (hM : MT y bytes maxL none fr1 lc1 enc1 (va_rf ro :: As) f) (hw : CWm y bytes maxL none n) (hl1 : Cond.methodLink own idx y ∈ lw_all) (hin : Cond.instanceMethod y ∈ lw_all) (hini : y.name = "<init>") (hAs : As.length = n) (hR : fr1 + 1 ≤ fr ∧ 8 + (maxL + 11) + lc1 ≤ lc) (hst : okst st ∧ st.length ≤ 8) (hd : decode cc pc = .ok (.invokespecial idx, 3)) {st0 : List Value} (hs0 : st0 = As.reverse ++ va_rf ro :: st) (hs : ∀ r, (enc1 r).toList ++ st = stf r)
    (k1 : ∀ r M' z', SK G F nL enc (pc + 3) L (stf r) M' z' (kf r M' z')) : SK G F nL enc pc L st0 M z (if ro = none then none else cb (f M z) z kf) := by
  cases ro with
  | none => rw [if_pos rfl]; exact SK.fail
  | some a =>
    rw [if_neg (by simp)]
    exact s_callI hF hM hw hl1 hin hini hAs hR hst hd hs0 hs k1
theorem s_callN {ro : Option Nat} {cs : List Nat} {host : String} (hF : FX G cc nL own ret nm fr lc) (hM : MT y bytes maxL rt fr1 lc1 enc1 (va_rf ro :: As) f) (hw : CWm y bytes maxL rt n) (hl1 : Cond.methodLinkNest own idx y host ∈ NW) (hin : Cond.instanceMethod y ∈ lw_all) (hcs : ∀ c ∈ cs, ∃ q : vw_C, cl_[c]? = some q ∧ Cond.selects q.1 y y ∈ lw_all) (hAs : As.length = n) (hR : fr1 + 1 ≤ fr ∧ 8 + (maxL + 11) + lc1 ≤ lc) (hst : okst st ∧ st.length ≤ 8) (hd : decode cc pc = .ok (.invokevirtual idx, 3)) {st0 : List Value} (hs0 : st0 = As.reverse ++ va_rf ro :: st) (hs : ∀ r, (enc1 r).toList ++ st = stf r)
    (k1 : ∀ r M' z', SK G F nL enc (pc + 3) L (stf r) M' z' (kf r M' z')) : SK G F nL enc pc L st0 M z (if ckc M ro cs = true then cb (f M z) z kf else none) := by
  refine SK.chk fun hc => ?_
  intro r9 dc ds hk he
  obtain ⟨r1, M1, dc1, ds1, dc2, ds2, hx1, hk2, e1, e2⟩ := cb_some hk
  have kk := k1 r1 M1 (z + dc1) r9 dc2 ds2 hk2 he
  rw [← hs r1] at kk
  obtain ⟨⟨p, l, e, R, s, m, args, below, meth, c0⟩, A, D, dA, mi⟩ := G
  obtain ⟨hx, hb, hml, hown, hts, hr, hlk, hK, hnm, hfr, hlc⟩ := hF
  intro H locs cells slots ls hl hW hS h1 h2 h3
  have hMet := hM l A D dA mi M z r1 M1 dc1 ds1 hx1
  obtain ⟨a, c, fs, rfl, hcc, hm⟩ := ckc_some hc
  obtain ⟨q, hq, hsel⟩ := hcs c hcc
  have hcB := va_cnB (R := R) (own := own) (index := idx) (rm := { frames := fr1, cells := dc1, slots := ds1, locals := lc1 }) (mc := dc1) (ms := ds1) n hts (lw_meth hw.1) rfl rfl rfl (hK.2.1 _ hl1) (hts _ hw.2.1) hw.2.2 ⟨Nat.le_trans hR.1 hfr, Nat.le_trans hR.2 hlc⟩
  exact sm_back (len := 3) (va_runVN (As := As) (rest := st) (b := a) ⟨hx, hb, hml, hown, hts⟩ hMet ⟨hcB, hts _ hin, hts _ hsel⟩ ⟨PcX.blind, hW.recv hK hm hq, fun U hU hWm => ⟨rfl, hK.warm hWm, by rw [hU]; exact hW⟩⟩ rfl hAs hl.1 hs0 (hroom hst.1 hst.2) hd ⟨by omega, by omega⟩) kk hl hS h1 h2 h3 e1 e2
theorem s_callM {host : String} (hF : FX G cc nL own ret nm fr lc) (hM : MT y bytes maxL rt fr1 lc1 enc1 As f) (hw : CWm y bytes maxL rt n) (hl1 : Cond.methodLinkNest own idx y host ∈ NW) (hin : Cond.static y ∈ lw_all) (hAs : As.length = n) (hR : fr1 + 1 ≤ fr ∧ 8 + (maxL + 11) + lc1 ≤ lc) (hst : okst st ∧ st.length ≤ 8) (hd : decode cc pc = .ok (.invokestatic idx, 3)) {st0 : List Value} (hs0 : st0 = As.reverse ++ st) (hs : ∀ r, (enc1 r).toList ++ st = stf r)
    (k1 : ∀ r M' z', SK G F nL enc (pc + 3) L (stf r) M' z' (kf r M' z')) : SK G F nL enc pc L st0 M z (cb (f M z) z kf) := by
  intro r9 dc ds hk he
  obtain ⟨r1, M1, dc1, ds1, dc2, ds2, hx1, hk2, e1, e2⟩ := cb_some hk
  have kk := k1 r1 M1 (z + dc1) r9 dc2 ds2 hk2 he
  rw [← hs r1] at kk
  obtain ⟨⟨p, l, e, R, s, m, args, below, meth, c0⟩, A, D, dA, mi⟩ := G
  obtain ⟨hx, hb, hml, hown, hts, hr, hlk, hK, hnm, hfr, hlc⟩ := hF
  intro H locs cells slots ls hl hW hS h1 h2 h3
  have hMet := hM l A D dA mi M z r1 M1 dc1 ds1 hx1
  have hcB := va_cnB (R := R) (own := own) (index := idx) (rm := { frames := fr1, cells := dc1, slots := ds1, locals := lc1 }) (mc := dc1) (ms := ds1) n hts (lw_meth hw.1) rfl rfl rfl (hK.2.1 _ hl1) (hts _ hw.2.1) hw.2.2 ⟨Nat.le_trans hR.1 hfr, Nat.le_trans hR.2 hlc⟩
  exact sm_back (len := 3) (va_runSN (As := As) (rest := st) ⟨hx, hb, hml, hown, hts⟩ hMet ⟨hcB, hts _ hin, trivial⟩ ⟨PcX.blind, fun U hU hWm => ⟨rfl, hK.warm hWm, by rw [hU]; exact hW⟩⟩ rfl hAs hl.1 hs0 (hroom hst.1 hst.2) hd ⟨by omega, by omega⟩) kk hl hS h1 h2 h3 e1 e2
/-- through an interface: x named, y run, for each class of cs -/
theorem s_callF {ro : Option Nat} {cs : List Nat} {x : MethodName} {count : Nat} (hF : FX G cc nL own ret nm fr lc) (hM : MT y bytes maxL rt fr1 lc1 enc1 (va_rf ro :: As) f) (hw : CWm y bytes maxL rt n) (hxy : x.desc = y.desc) (hxn : x.cls ≠ "java/lang/invoke/MethodHandle" ∧ x.cls ≠ "java/lang/invoke/VarHandle") (hl1 : Cond.methodLink own idx x ∈ lw_all) (hin : Cond.instanceMethod y ∈ lw_all) (hdc : Cond.declares x ∈ NW) (hif : Cond.interfaceMethod x.cls x.cls x.name x.desc ∈ NW) (hpb : Cond.publicMethod y ∈ NW) (hcs : ∀ c ∈ cs, ∃ q : vw_C, cl_[c]? = some q ∧ Cond.selects q.1 x y ∈ lw_all ∧ Cond.unhidden q.1 x.name x.desc ∈ NW ∧ Cond.castable q.1 x.cls ∈ NW) (hAs : As.length = n) (hR : fr1 + 1 ≤ fr ∧ 8 + (maxL + 11) + lc1 ≤ lc) (hst : okst st ∧ st.length ≤ 8) (hd : decode cc pc = .ok (.invokeinterface idx count, 5)) {st0 : List Value} (hs0 : st0 = As.reverse ++ va_rf ro :: st) (hs : ∀ r, (enc1 r).toList ++ st = stf r)
    (k1 : ∀ r M' z', SK G F nL enc (pc + 5) L (stf r) M' z' (kf r M' z')) : SK G F nL enc pc L st0 M z (if ckc M ro cs = true then cb (f M z) z kf else none) := by
  refine SK.chk fun hc => ?_
  intro r9 dc ds hk he
  obtain ⟨r1, M1, dc1, ds1, dc2, ds2, hx1, hk2, e1, e2⟩ := cb_some hk
  have kk := k1 r1 M1 (z + dc1) r9 dc2 ds2 hk2 he
  rw [← hs r1] at kk
  obtain ⟨⟨p, l, e, R, s, m, args, below, meth, c0⟩, A, D, dA, mi⟩ := G
  obtain ⟨hx, hb, hml, hown, hts, hr, hlk, hK, hnm, hfr, hlc⟩ := hF
  intro H locs cells slots ls hl hW hS h1 h2 h3
  have hMet := hM l A D dA mi M z r1 M1 dc1 ds1 hx1
  obtain ⟨a, c, fs, rfl, hcc, hm⟩ := ckc_some hc
  obtain ⟨q, hq, hsel, hun, hca⟩ := hcs c hcc
  have hN := hK.2.1
  have hFw : va_Fw q.1 x y s := ⟨hN _ hdc, hN _ hif, hN _ hpb, hN _ hun, hN _ hca⟩
  have hG : GoodIn lw_all (va_wsF own idx q.1 x y (ws_ y bytes maxL rt)) := by
    refine lw_app ?_ (lw_meth hw.1)
    intro w hw9
    simp only [List.mem_cons, List.not_mem_nil, or_false] at hw9
    rcases hw9 with e | e | e | e
    · rw [e]; exact hl1
    · rw [e]; exact hsel
    · rw [e]; exact hin
    · rw [e]; exact hw.2.1
  have hcw := va_cwF (R := R) (rm := { frames := fr1, cells := dc1, slots := ds1, locals := lc1 }) (mc := dc1) (ms := ds1) n hts hG rfl rfl rfl hFw ⟨hxn.1, hxn.2, by rw [hxy]; exact hw.2.2.2.2⟩ ⟨Nat.le_trans hR.1 hfr, Nat.le_trans hR.2 hlc⟩
  exact sm_back (len := 5) (va_runF (As := As) (rest := st) (b := a) (hK.1.1 c q hq).2 ⟨hx, hb, hml, hown, hts⟩ hMet hcw ⟨PcX.blind, hW.recv hK hm hq, fun U hU hWm => ⟨rfl, hK.warm hWm, by rw [hU]; exact hW⟩⟩ rfl hAs hl.1 hs0 (hroom hst.1 hst.2) hd ⟨by omega, by omega⟩) kk hl hS h1 h2 h3 e1 e2
theorem s_nwo {ci N : Nat} {C : String} {T : u_T} {fs : List Value} {kg : Mp → Nat → Rs ρ} (hF : FX G cc nL own ret nm fr lc) (hd : decode cc pc = .ok (.new idx, 3)) (hc : cl_[ci]? = some (C, T, N)) (hin : ∀ w ∈ u_ws C T N, w ∈ lw_all) (ty : Nat → FieldType) (hty : ∀ k, k < N → parseFieldDescriptor (T k).2.2.1 = some (ty k)) (hcl : Cond.classLink own idx C ∈ lw_all) (hinst : Cond.instantiable C N ∈ lw_all) (hini : Cond.initialized C ∈ lw_all) (hfs : ∀ j, j < N → defaultValue (ty j) = vp_V fs j)
    (k1 : ∀ M' z', SK G F nL enc (pc + 3) L (va_rf (some z) :: st) M' z' (kg M' z')) : SK G F nL enc pc L st M z (nwo ci N fs M z kg) := s_new hF hc hin ty hty hcl hinst hini hfs hd (k1 _ _)
theorem s_nwi {m9 : Int32} {kg : Mp → Nat → Rs ρ} (hF : FX G cc nL own ret nm fr lc) (kd : Nat) (atype : ArrayType) (hd : decode cc pc = .ok (.newarray atype, 2)) (hkd : (kd = 0 ∧ atype = .int) ∨ (kd = 1 ∧ atype = .boolean)) (harr : Cond.arrayClass (newarray.typeOf atype) ∈ lw_all)
    (k1 : ∀ M' z', SK G F nL enc (pc + 2) L (va_rf (some z) :: st) M' z' (kg M' z')) : SK G F nL enc pc L (.int m9 :: st) M z (nwi kd m9 M z kg) := s_newi kd atype hkd harr hF hd (k1 _ _)
theorem s_nwq {m9 : Int32} {kg : Mp → Nat → Rs ρ} (hF : FX G cc nL own ret nm fr lc) (kd : Nat) (C : String) (hd : decode cc pc = .ok (.anewarray idx, 3)) (hkd : (kd = 2 ∧ C = "java/lang/Object") ∨ (kd = 3 ∧ C = "StoryColumns$Mark")) (hcl : Cond.classLink own idx C ∈ lw_all)
    (k1 : ∀ M' z', SK G F nL enc (pc + 3) L (va_rf (some z) :: st) M' z' (kg M' z')) : SK G F nL enc pc L (.int m9 :: st) M z (nwq kd m9 M z kg) := s_newq kd C hkd hcl hF hd (k1 _ _)
/-- Object's own constructor -/
theorem s_oinit {ro : Option Nat} {k : Rs ρ} (hF : FX G cc nL own ret nm fr lc) (hl1 : Cond.methodLink own idx objectInit ∈ lw_all) (hR : 1 ≤ fr ∧ 20 ≤ lc) (hst : okst st ∧ st.length ≤ 8) (hd : decode cc pc = .ok (.invokespecial idx, 3))
    (k1 : SK G F nL enc (pc + 3) L st M z k) : SK G F nL enc pc L (va_rf ro :: st) M z (if ro = none then none else k) := by
  cases ro with
  | none => rw [if_pos rfl]; exact SK.fail
  | some a =>
  rw [if_neg (by simp)]
  intro r9 dc ds hk he
  have kk := k1 r9 dc ds hk he
  obtain ⟨⟨p, l, e, R, s, m, args, below, meth, c0⟩, A, D, dA, mi⟩ := G
  obtain ⟨hx, hb, hml, hown, hts, hr, hlk, hK, hnm, hfr, hlc⟩ := hF
  intro H locs cells slots ls hl hW hS h1 h2 h3
  refine W.objInit hx hb hown (hts _ hl1) (hts _ oi_inst) (hts _ oi_code) rfl (by rw [hml]; exact hl.1) rfl hd (Nat.le_trans hR.1 hfr) (by have := hroom (m := m) (pc := pc) (ls := ls) (st0 := va_rf (some a) :: st) hst.1 hst.2; omega) ?_
  exact kk H locs cells slots ls hl hW hS h1 h2 h3
end CALLS
