set_option maxRecDepth 100000
/-! ===== THE SIMULATION: a frame at pc, over the world (M, z), does what the pure computation k says ===== -/
abbrev Cx : Type := (Program × Launch × Env × Room × State × MethodId × Array Value × List Frame × Method × Code) × (Nat → Prop) × va_G × (Nat → Nat) × Nat
def QR (A : Nat → Prop) (D : va_G) (dA : Nat → Nat) (v : Option Value) (M : Mp) (z : Nat) : Array Value → State → Outcome → State → Prop := fun _ st oc t => oc = .returned v ∧ Wd A D dA M z t.heap ∧ va_F A st t
def Sm (G : Cx) (F : Option Value × Mp × Nat) (nL pc : Nat) (L : List (Option Value)) (st : List Value) (M : Mp) (z dc ds : Nat) : Prop := match G with
  | ((p, l, e, R, s, m, args, below, meth, c), A, D, dA, _) => ∀ (H : Heap) (locs : List Loc) (cells slots : Nat) (ls : Array Slot), lo ls nL L → Wd A D dA M z H → va_S A s.heap H locs → cells + dc = R.cells → slots + ds = R.slots → z + dc = F.2.2 → W p l e R s m args below meth c H locs cells slots (MQ below (QR A D dA F.1 F.2.1 F.2.2) args s R.cells R.slots A) (F0 m pc ls st)
def SK (G : Cx) (F : Option Value × Mp × Nat) (nL : Nat) {ρ : Type} (enc : ρ → Option Value) (pc : Nat) (L : List (Option Value)) (st : List Value) (M : Mp) (z : Nat) (k : Rs ρ) : Prop := ∀ r dc ds, k = some (r, F.2.1, dc, ds) → enc r = F.1 → Sm G F nL pc L st M z dc ds
def FX (G : Cx) (cc : ByteArray) (nL : Nat) (own : String) (ret : Option FieldType) (nm : String) (fr lc : Nat) : Prop := match G with
  | ((p, _, _, R, s, m, args, _, meth, c), _, D, dA, mi) => p.tables.exec = Jvm.exec ∧ c.code = cc ∧ c.maxLocals = nL ∧ s.vm.findClass own = some m.cls ∧ (∀ w ∈ lw_all, w.before args s = true) ∧ meth.sig.returnType = ret ∧ meth.locks = false ∧ Kx D dA mi s ∧ meth.name = nm ∧ fr ≤ R.frames ∧ lc ≤ R.locals
def eI (r : Int32) : Option Value := some (.int r)
def eR (r : Option Nat) : Option Value := some (va_rf r)
def eV (_ : Unit) : Option Value := none
theorem ct (r : Option Nat) : (va_rf r).category = 1 := by cases r <;> rfl
def okst : List Value → Prop
  | [] => True
  | v :: t => v.category = 1 ∧ okst t
theorem okst_sum : ∀ st : List Value, okst st → (st.map fun v => v.category).sum = st.length
  | [], _ => rfl
  | v :: t, h => by
    have := okst_sum t h.2
    simp only [List.map_cons, List.sum_cons, List.length_cons, h.1, this]
    omega
/-! pure words -/
def cost {ρ : Type} (dc ds : Nat) (x : Rs ρ) : Rs ρ := x.map fun q => (q.1, q.2.1, dc + q.2.2.1, ds + q.2.2.2)
def cb {α ρ : Type} (x : Rs α) (z : Nat) (k : α → Mp → Nat → Rs ρ) : Rs ρ := x.bind fun q => cost q.2.2.1 q.2.2.2 (k q.1 q.2.1 (z + q.2.2.1))
theorem cost_some {ρ : Type} {a b : Nat} {x : Rs ρ} {r : ρ} {M : Mp} {dc ds : Nat} (h : cost a b x = some (r, M, dc, ds)) : ∃ dc' ds', x = some (r, M, dc', ds') ∧ dc = a + dc' ∧ ds = b + ds' := by
  unfold cost at h
  cases x with
  | none => cases h
  | some q =>
    obtain ⟨r', M', c', s'⟩ := q
    simp only [Option.map_some, Option.some.injEq, Prod.mk.injEq] at h
    obtain ⟨rfl, rfl, rfl, rfl⟩ := h
    exact ⟨c', s', rfl, rfl, rfl⟩
def fs_ (M : Mp) (r : Option Nat) (cs : List Nat) : Option (List Value) := match r with
  | none => none
  | some a => match M a with
    | some (.inr (c, fs)) => if c ∈ cs then some fs else none
    | _ => none
theorem fs_some {M : Mp} {r : Option Nat} {cs : List Nat} {fs : List Value} (h : fs_ M r cs = some fs) : ∃ a c, r = some a ∧ c ∈ cs ∧ M a = some (.inr (c, fs)) := by
  unfold fs_ at h
  cases r with
  | none => cases h
  | some a =>
    simp only at h
    split at h
    · rename_i c fs' hm
      split at h
      · rename_i hc
        cases h
        exact ⟨a, c, rfl, hc, hm⟩
      · cases h
    · cases h
def vi (v : Option Value) : Option Int32 := match v with
  | some (.int x) => some x
  | _ => none
def vr (v : Option Value) : Option (Option Nat) := match v with
  | some (.ref a) => some (some a)
  | some .null => some none
  | _ => none
def gi (M : Mp) (r : Option Nat) (cs : List Nat) (j : Nat) : Option Int32 := (fs_ M r cs).bind fun fs => vi fs[j]?
def gr (M : Mp) (r : Option Nat) (cs : List Nat) (j : Nat) : Option (Option Nat) := (fs_ M r cs).bind fun fs => vr fs[j]?
def pu (M : Mp) (r : Option Nat) (cs : List Nat) (j : Nat) (v : Value) : Option Mp := match r with
  | none => none
  | some a => match M a with
    | some (.inr (c, fs)) => if c ∈ cs ∧ j < fs.length then some (va_up M a (some (.inr (c, fs.set j v)))) else none
    | _ => none
theorem vi_some {v : Option Value} {x : Int32} (h : vi v = some x) : v = some (.int x) := by
  unfold vi at h
  split at h
  · cases h; rfl
  · cases h
theorem vr_some {v : Option Value} {x : Option Nat} (h : vr v = some x) : v = some (va_rf x) := by
  unfold vr at h
  split at h
  · cases h; rfl
  · cases h; rfl
  · cases h
theorem pu_some {M M' : Mp} {r : Option Nat} {cs : List Nat} {j : Nat} {v : Value} (h : pu M r cs j v = some M') : ∃ a c fs, r = some a ∧ c ∈ cs ∧ M a = some (.inr (c, fs)) ∧ j < fs.length ∧ M' = va_up M a (some (.inr (c, fs.set j v))) := by
  unfold pu at h
  cases r with
  | none => cases h
  | some a =>
    simp only at h
    split at h
    · rename_i c fs hm
      split at h
      · rename_i hc
        cases h
        exact ⟨a, c, fs, rfl, hc.1, hm, hc.2, rfl⟩
      · cases h
    · cases h
/-- an element of an array of ints (kind 0) or booleans (kind 1) -/
def ai (M : Mp) (kd : Nat) (r : Option Nat) (i : Int32) : Option Int32 := match r with
  | none => none
  | some a => match M a with
    | some (.inl (k, n, .inl f)) => if k = kd ∧ ¬ (i < 0 ∨ n ≤ i.toNatClampNeg) then some (f i.toNatClampNeg) else none
    | _ => none
def si (M : Mp) (kd : Nat) (r : Option Nat) (i x : Int32) : Option Mp := match r with
  | none => none
  | some a => match M a with
    | some (.inl (k, n, .inl f)) => if k = kd ∧ ¬ (i < 0 ∨ n ≤ i.toNatClampNeg) then some (va_up M a (some (.inl (k, n, .inl (upd f i.toNatClampNeg x))))) else none
    | _ => none
def ar (M : Mp) (kd : Nat) (r : Option Nat) (i : Int32) : Option (Option Nat) := match r with
  | none => none
  | some a => match M a with
    | some (.inl (k, n, .inr (.inr (.inr (.inr f))))) => if k = kd ∧ ¬ (i < 0 ∨ n ≤ i.toNatClampNeg) then some (f i.toNatClampNeg) else none
    | _ => none
def isO (M : Mp) (kd : Nat) (v : Option Nat) : Bool := match v with
  | none => true
  | some y => match M y with
    | some (.inr (c, _)) => decide (c < 13) && (decide (kd = 2) || decide (c = 6))
    | _ => false
def sr (M : Mp) (kd : Nat) (r : Option Nat) (i : Int32) (v : Option Nat) : Option Mp := match r with
  | none => none
  | some a => match M a with
    | some (.inl (k, n, .inr (.inr (.inr (.inr f))))) => if (k = kd ∧ ¬ (i < 0 ∨ n ≤ i.toNatClampNeg)) ∧ isO M kd v = true then some (va_up M a (some (.inl (k, n, .inr (.inr (.inr (.inr (va_up f i.toNatClampNeg v)))))))) else none
    | _ => none
def al (M : Mp) (r : Option Nat) : Option Int32 := match r with
  | none => none
  | some a => match M a with
    | some (.inl (k, n, _)) => if k < 4 then some (Int32.ofNat n) else none
    | _ => none
/-- System.arraycopy of references -/
def ac (M : Mp) (src : Option Nat) (sp : Int32) (dst : Option Nat) (dp n : Int32) : Option Mp := match src, dst with
  | some a, some b => match M a, M b with
    | some (.inl (k0, n0, .inr (.inr (.inr (.inr f))))), some (.inl (k1, n1, .inr (.inr (.inr (.inr g))))) =>
      if (k0 = 2 ∧ k1 = 2) ∧ (¬ sp < 0 ∧ ¬ dp < 0 ∧ ¬ n < 0) ∧ (sp.toNatClampNeg + n.toNatClampNeg ≤ n0 ∧ dp.toNatClampNeg + n.toNatClampNeg ≤ n1) ∧ (List.range n.toNatClampNeg).all (fun i => isO M 2 (f (sp.toNatClampNeg + i))) = true then
        some (va_up M b (some (.inl (k1, n1, .inr (.inr (.inr (.inr (va_cpy f g sp.toNatClampNeg dp.toNatClampNeg n.toNatClampNeg))))))))
      else none
    | _, _ => none
  | _, _ => none
/-- the class's number of an object (null: none) -/
def cf (M : Mp) (r : Option Nat) : Option Nat := match r with
  | none => none
  | some a => match M a with
    | some (.inr (c, _)) => some c
    | _ => none
/-- instanceof Head, of a block -/
def isH (M : Mp) (r : Option Nat) : Option Int32 := match r with
  | none => some 0
  | some _ => match cf M r with
    | some 2 => some 0
    | some 3 => some 1
    | _ => none
/-- checkcast: null, or of one of these classes -/
def cst (M : Mp) (r : Option Nat) (cs : List Nat) : Bool := match r with
  | none => true
  | some _ => match cf M r with
    | some c => decide (c ∈ cs)
    | none => false
theorem cf_some {M : Mp} {r : Option Nat} {c : Nat} (h : cf M r = some c) : ∃ a fs, r = some a ∧ M a = some (.inr (c, fs)) := by
  unfold cf at h
  cases r with
  | none => cases h
  | some a =>
    simp only at h
    split at h
    · rename_i c' fs hm
      cases h
      exact ⟨a, fs, rfl, hm⟩
    · cases h
/-! the world moves -/
theorem va_up_s {α : Type} (f : Nat → α) (k : Nat) (v : α) : va_up f k v k = v := if_pos rfl
theorem va_up_n {α : Type} (f : Nat → α) {k j : Nat} (v : α) (h : j ≠ k) : va_up f k v j = f j := if_neg h
theorem Wd.cell {A : Nat → Prop} {D : va_G} {dA : Nat → Nat} {M : Mp} {z : Nat} {H : Heap} (h : Wd A D dA M z H) {a : Nat} {e : va_E} (he : M a = some e) : va_at D cl_ (a, en dA e) H := (h.2.1 a e he).1
theorem Wd.lt {A : Nat → Prop} {D : va_G} {dA : Nat → Nat} {M : Mp} {z : Nat} {H : Heap} (h : Wd A D dA M z H) {a : Nat} {e : va_E} (he : M a = some e) : a < z := by
  have := (h.cell he).lt
  rw [h.1] at this
  exact this
theorem Wd.set {A : Nat → Prop} {D : va_G} {dA : Nat → Nat} {M : Mp} {z : Nat} {H H1 : Heap} (h : Wd A D dA M z H) {a : Nat} {e0 e : va_E} (h0 : M a = some e0) (hz : H1.size = H.size) (he : va_at D cl_ (a, en dA e) H1) (oq : ∀ q : Nat, q ≠ a → H1[q]? = H[q]?) : Wd A D dA (va_up M a (some e)) z H1 := by
  refine ⟨by rw [hz]; exact h.1, fun b e' hb => ?_, h.2.2⟩
  by_cases hab : b = a
  · subst hab
    rw [va_up_s] at hb
    cases hb
    exact ⟨he, (h.2.1 b _ h0).2⟩
  · rw [va_up_n _ _ hab] at hb
    exact ⟨(h.cell hb).kept (oq b hab), (h.2.1 b _ hb).2⟩
theorem Wd.push {A : Nat → Prop} {D : va_G} {dA : Nat → Nat} {M : Mp} {z : Nat} {H H1 : Heap} (h : Wd A D dA M z H) {e : va_E} (hz : H1.size = H.size + 1) (he : va_at D cl_ (z, en dA e) H1) (oq : ∀ q : Nat, q < H.size → H1[q]? = H[q]?) : Wd A D dA (va_up M z (some e)) (z + 1) H1 := by
  refine ⟨by rw [hz, h.1], fun b e' hb => ?_, fun q hq => h.2.2 q (by omega)⟩
  by_cases hab : b = z
  · subst hab
    rw [va_up_s] at hb
    cases hb
    exact ⟨he, h.2.2 b (Nat.le_refl _)⟩
  · rw [va_up_n _ _ hab] at hb
    exact ⟨(h.cell hb).kept (oq b (by have := h.lt hb; rw [h.1]; exact this)), (h.2.1 b _ hb).2⟩
theorem va_S.grow {A : Nat → Prop} {H0 H H1 : Heap} {locs : List Loc} (h : va_S A H0 H locs) (hz : H1.size = H.size + 1) (oq : ∀ q : Nat, q < H.size → H1[q]? = H[q]?) : va_S A H0 H1 locs :=
  ⟨Nat.le_trans h.1 (by omega), fun x h1 h2 => (oq x (Nat.lt_of_lt_of_le h1 h.1)).trans (h.2.1 x h1 h2), h.2.2⟩
section SIM
variable {G : Cx} {F : Option Value × Mp × Nat} {nL pc z fr lc : Nat} {ρ : Type} {enc : ρ → Option Value} {L : List (Option Value)} {st : List Value} {M : Mp} {k k2 : Rs ρ} {cc : ByteArray} {own nm : String} {ret : Option FieldType}
theorem SK.fail : SK G F nL enc pc L st M z (none : Rs ρ) := fun _ _ _ h => by cases h
theorem SK.chk {c : Prop} [Decidable c] (h : c → SK G F nL enc pc L st M z k) : SK G F nL enc pc L st M z (if c then k else none) := by
  by_cases hc : c
  · rw [if_pos hc]; exact h hc
  · rw [if_neg hc]; exact SK.fail
theorem SK.sub {L' : List (Option Value)} (hs : subL L' L) (h : SK G F nL enc pc L' st M z k) : SK G F nL enc pc L st M z k := by
  obtain ⟨⟨p, l, e, R, s, m, args, below, meth, c⟩, A, D, dA, mi⟩ := G
  intro r dc ds hk he H locs cells slots ls hl
  exact h r dc ds hk he H locs cells slots ls (hl.sub hs)
theorem SK.eq {k' : Rs ρ} (e : k = k') (h : SK G F nL enc pc L st M z k') : SK G F nL enc pc L st M z k := e ▸ h
theorem s_iadd (hF : FX G cc nL own ret nm fr lc) {x y : Int32} (hd : decode cc pc = .ok (.iadd, 1)) 
    (k1 : SK G F nL enc (pc + 1) L (.int (x + y) :: st) M z k) : SK G F nL enc pc L (.int y :: .int x :: st) M z k := by
  obtain ⟨⟨p, l, e, R, s, m, args, below, meth, c⟩, A, D, dA, mi⟩ := G
  obtain ⟨hx, hb, hml, hown, hts, hr, hlk, hK, hnm, hfr, hlc⟩ := hF
  intro r9 dc ds hk he H locs cells slots ls hl hW hS h1 h2 h3
  exact lv_iadd hx hb hd (k1 r9 dc ds hk he H locs cells slots ls hl hW hS h1 h2 h3)
theorem s_isub (hF : FX G cc nL own ret nm fr lc) {x y : Int32} (hd : decode cc pc = .ok (.isub, 1)) 
    (k1 : SK G F nL enc (pc + 1) L (.int (x - y) :: st) M z k) : SK G F nL enc pc L (.int y :: .int x :: st) M z k := by
  obtain ⟨⟨p, l, e, R, s, m, args, below, meth, c⟩, A, D, dA, mi⟩ := G
  obtain ⟨hx, hb, hml, hown, hts, hr, hlk, hK, hnm, hfr, hlc⟩ := hF
  intro r9 dc ds hk he H locs cells slots ls hl hW hS h1 h2 h3
  exact lv_isub hx hb hd (k1 r9 dc ds hk he H locs cells slots ls hl hW hS h1 h2 h3)
theorem s_imul (hF : FX G cc nL own ret nm fr lc) {x y : Int32} (hd : decode cc pc = .ok (.imul, 1)) 
    (k1 : SK G F nL enc (pc + 1) L (.int (x * y) :: st) M z k) : SK G F nL enc pc L (.int y :: .int x :: st) M z k := by
  obtain ⟨⟨p, l, e, R, s, m, args, below, meth, c⟩, A, D, dA, mi⟩ := G
  obtain ⟨hx, hb, hml, hown, hts, hr, hlk, hK, hnm, hfr, hlc⟩ := hF
  intro r9 dc ds hk he H locs cells slots ls hl hW hS h1 h2 h3
  exact lv_imul hx hb hd (k1 r9 dc ds hk he H locs cells slots ls hl hW hS h1 h2 h3)
theorem s_iand (hF : FX G cc nL own ret nm fr lc) {x y : Int32} (hd : decode cc pc = .ok (.iand, 1)) 
    (k1 : SK G F nL enc (pc + 1) L (.int (x &&& y) :: st) M z k) : SK G F nL enc pc L (.int y :: .int x :: st) M z k := by
  obtain ⟨⟨p, l, e, R, s, m, args, below, meth, c⟩, A, D, dA, mi⟩ := G
  obtain ⟨hx, hb, hml, hown, hts, hr, hlk, hK, hnm, hfr, hlc⟩ := hF
  intro r9 dc ds hk he H locs cells slots ls hl hW hS h1 h2 h3
  exact lv_iand hx hb hd (k1 r9 dc ds hk he H locs cells slots ls hl hW hS h1 h2 h3)
theorem s_ior (hF : FX G cc nL own ret nm fr lc) {x y : Int32} (hd : decode cc pc = .ok (.ior, 1)) 
    (k1 : SK G F nL enc (pc + 1) L (.int (x ||| y) :: st) M z k) : SK G F nL enc pc L (.int y :: .int x :: st) M z k := by
  obtain ⟨⟨p, l, e, R, s, m, args, below, meth, c⟩, A, D, dA, mi⟩ := G
  obtain ⟨hx, hb, hml, hown, hts, hr, hlk, hK, hnm, hfr, hlc⟩ := hF
  intro r9 dc ds hk he H locs cells slots ls hl hW hS h1 h2 h3
  exact lv_ior hx hb hd (k1 r9 dc ds hk he H locs cells slots ls hl hW hS h1 h2 h3)
theorem s_ishl (hF : FX G cc nL own ret nm fr lc) {x y : Int32} (hd : decode cc pc = .ok (.ishl, 1)) 
    (k1 : SK G F nL enc (pc + 1) L (.int (x <<< (y &&& 31)) :: st) M z k) : SK G F nL enc pc L (.int y :: .int x :: st) M z k := by
  obtain ⟨⟨p, l, e, R, s, m, args, below, meth, c⟩, A, D, dA, mi⟩ := G
  obtain ⟨hx, hb, hml, hown, hts, hr, hlk, hK, hnm, hfr, hlc⟩ := hF
  intro r9 dc ds hk he H locs cells slots ls hl hW hS h1 h2 h3
  exact lv_ishl hx hb hd (k1 r9 dc ds hk he H locs cells slots ls hl hW hS h1 h2 h3)
theorem s_ishr (hF : FX G cc nL own ret nm fr lc) {x y : Int32} (hd : decode cc pc = .ok (.ishr, 1)) 
    (k1 : SK G F nL enc (pc + 1) L (.int (x >>> (y &&& 31)) :: st) M z k) : SK G F nL enc pc L (.int y :: .int x :: st) M z k := by
  obtain ⟨⟨p, l, e, R, s, m, args, below, meth, c⟩, A, D, dA, mi⟩ := G
  obtain ⟨hx, hb, hml, hown, hts, hr, hlk, hK, hnm, hfr, hlc⟩ := hF
  intro r9 dc ds hk he H locs cells slots ls hl hW hS h1 h2 h3
  exact lv_ishr hx hb hd (k1 r9 dc ds hk he H locs cells slots ls hl hW hS h1 h2 h3)
theorem s_ineg (hF : FX G cc nL own ret nm fr lc) {x : Int32} (hd : decode cc pc = .ok (.ineg, 1)) 
    (k1 : SK G F nL enc (pc + 1) L (.int (-x) :: st) M z k) : SK G F nL enc pc L (.int x :: st) M z k := by
  obtain ⟨⟨p, l, e, R, s, m, args, below, meth, c⟩, A, D, dA, mi⟩ := G
  obtain ⟨hx, hb, hml, hown, hts, hr, hlk, hK, hnm, hfr, hlc⟩ := hF
  intro r9 dc ds hk he H locs cells slots ls hl hW hS h1 h2 h3
  exact lv_ineg hx hb hd (k1 r9 dc ds hk he H locs cells slots ls hl hW hS h1 h2 h3)
theorem s_iconst (hF : FX G cc nL own ret nm fr lc) {n : Int} (hd : decode cc pc = .ok (.iconst n, 1)) (v : Int32) (hv : Int32.ofInt n = v)
    (k1 : SK G F nL enc (pc + 1) L (.int v :: st) M z k) : SK G F nL enc pc L (st) M z k := by
  obtain ⟨⟨p, l, e, R, s, m, args, below, meth, c⟩, A, D, dA, mi⟩ := G
  obtain ⟨hx, hb, hml, hown, hts, hr, hlk, hK, hnm, hfr, hlc⟩ := hF
  intro r9 dc ds hk he H locs cells slots ls hl hW hS h1 h2 h3
  exact lv_iconst hx hb hd hv (k1 r9 dc ds hk he H locs cells slots ls hl hW hS h1 h2 h3)
theorem s_bipush (hF : FX G cc nL own ret nm fr lc) {n : Int} (hd : decode cc pc = .ok (.bipush n, 2)) (v : Int32) (hv : (Int8.ofInt n).toInt32 = v)
    (k1 : SK G F nL enc (pc + 2) L (.int v :: st) M z k) : SK G F nL enc pc L (st) M z k := by
  obtain ⟨⟨p, l, e, R, s, m, args, below, meth, c⟩, A, D, dA, mi⟩ := G
  obtain ⟨hx, hb, hml, hown, hts, hr, hlk, hK, hnm, hfr, hlc⟩ := hF
  intro r9 dc ds hk he H locs cells slots ls hl hW hS h1 h2 h3
  exact lv_bipush hx hb hd hv (k1 r9 dc ds hk he H locs cells slots ls hl hW hS h1 h2 h3)
theorem s_sipush (hF : FX G cc nL own ret nm fr lc) {n : Int} (hd : decode cc pc = .ok (.sipush n, 3)) (v : Int32) (hv : (Int16.ofInt n).toInt32 = v)
    (k1 : SK G F nL enc (pc + 3) L (.int v :: st) M z k) : SK G F nL enc pc L (st) M z k := by
  obtain ⟨⟨p, l, e, R, s, m, args, below, meth, c⟩, A, D, dA, mi⟩ := G
  obtain ⟨hx, hb, hml, hown, hts, hr, hlk, hK, hnm, hfr, hlc⟩ := hF
  intro r9 dc ds hk he H locs cells slots ls hl hW hS h1 h2 h3
  exact lv_sipush hx hb hd hv (k1 r9 dc ds hk he H locs cells slots ls hl hW hS h1 h2 h3)
theorem s_null (hF : FX G cc nL own ret nm fr lc)  (hd : decode cc pc = .ok (.aconst_null, 1)) 
    (k1 : SK G F nL enc (pc + 1) L (va_rf none :: st) M z k) : SK G F nL enc pc L (st) M z k := by
  obtain ⟨⟨p, l, e, R, s, m, args, below, meth, c⟩, A, D, dA, mi⟩ := G
  obtain ⟨hx, hb, hml, hown, hts, hr, hlk, hK, hnm, hfr, hlc⟩ := hF
  intro r9 dc ds hk he H locs cells slots ls hl hW hS h1 h2 h3
  exact lv_null hx hb hd (k1 r9 dc ds hk he H locs cells slots ls hl hW hS h1 h2 h3)
theorem s_dup (hF : FX G cc nL own ret nm fr lc) {v : Value} (hd : decode cc pc = .ok (.dup, 1)) (hv : v.category = 1)
    (k1 : SK G F nL enc (pc + 1) L (v :: v :: st) M z k) : SK G F nL enc pc L (v :: st) M z k := by
  obtain ⟨⟨p, l, e, R, s, m, args, below, meth, c⟩, A, D, dA, mi⟩ := G
  obtain ⟨hx, hb, hml, hown, hts, hr, hlk, hK, hnm, hfr, hlc⟩ := hF
  intro r9 dc ds hk he H locs cells slots ls hl hW hS h1 h2 h3
  exact lv_dup hx hb hd hv (k1 r9 dc ds hk he H locs cells slots ls hl hW hS h1 h2 h3)
theorem s_pop (hF : FX G cc nL own ret nm fr lc) {v : Value} (hd : decode cc pc = .ok (.pop, 1)) (hv : v.category = 1)
    (k1 : SK G F nL enc (pc + 1) L (st) M z k) : SK G F nL enc pc L (v :: st) M z k := by
  obtain ⟨⟨p, l, e, R, s, m, args, below, meth, c⟩, A, D, dA, mi⟩ := G
  obtain ⟨hx, hb, hml, hown, hts, hr, hlk, hK, hnm, hfr, hlc⟩ := hF
  intro r9 dc ds hk he H locs cells slots ls hl hW hS h1 h2 h3
  exact lv_pop hx hb hd hv (k1 r9 dc ds hk he H locs cells slots ls hl hW hS h1 h2 h3)
theorem s_dup_x1 (hF : FX G cc nL own ret nm fr lc) {v w : Value} (hd : decode cc pc = .ok (.dup_x1, 1)) (hv : v.category = 1) (hw : w.category = 1)
    (k1 : SK G F nL enc (pc + 1) L (v :: w :: v :: st) M z k) : SK G F nL enc pc L (v :: w :: st) M z k := by
  obtain ⟨⟨p, l, e, R, s, m, args, below, meth, c⟩, A, D, dA, mi⟩ := G
  obtain ⟨hx, hb, hml, hown, hts, hr, hlk, hK, hnm, hfr, hlc⟩ := hF
  intro r9 dc ds hk he H locs cells slots ls hl hW hS h1 h2 h3
  exact lv_dup_x1 hx hb hd hv hw (k1 r9 dc ds hk he H locs cells slots ls hl hW hS h1 h2 h3)
theorem s_dup_x2 (hF : FX G cc nL own ret nm fr lc) {v w u : Value} (hd : decode cc pc = .ok (.dup_x2, 1)) (hv : v.category = 1) (hw : w.category = 1) (hu : u.category = 1)
    (k1 : SK G F nL enc (pc + 1) L (v :: w :: u :: v :: st) M z k) : SK G F nL enc pc L (v :: w :: u :: st) M z k := by
  obtain ⟨⟨p, l, e, R, s, m, args, below, meth, c⟩, A, D, dA, mi⟩ := G
  obtain ⟨hx, hb, hml, hown, hts, hr, hlk, hK, hnm, hfr, hlc⟩ := hF
  intro r9 dc ds hk he H locs cells slots ls hl hW hS h1 h2 h3
  exact lv_dup_x2 hx hb hd hv hw hu (k1 r9 dc ds hk he H locs cells slots ls hl hW hS h1 h2 h3)
theorem s_dup2 (hF : FX G cc nL own ret nm fr lc) {v w : Value} (hd : decode cc pc = .ok (.dup2, 1)) (hv : v.category = 1) (hw : w.category = 1)
    (k1 : SK G F nL enc (pc + 1) L (v :: w :: v :: w :: st) M z k) : SK G F nL enc pc L (v :: w :: st) M z k := by
  obtain ⟨⟨p, l, e, R, s, m, args, below, meth, c⟩, A, D, dA, mi⟩ := G
  obtain ⟨hx, hb, hml, hown, hts, hr, hlk, hK, hnm, hfr, hlc⟩ := hF
  intro r9 dc ds hk he H locs cells slots ls hl hW hS h1 h2 h3
  exact lv_dup2_11 hx hb hd hv hw (k1 r9 dc ds hk he H locs cells slots ls hl hW hS h1 h2 h3)
theorem s_iload_n (hF : FX G cc nL own ret nm fr lc) {kf : Fin 4} {i : Nat} {x : Int32} (hd : decode cc pc = .ok (.iload_n kf, 1)) (hi : (kf : Nat) = i) (hL : L[i]? = some (some (.int x)))
    (k1 : SK G F nL enc (pc + 1) L (.int x :: st) M z k) : SK G F nL enc pc L (st) M z k := by
  obtain ⟨⟨p, l, e, R, s, m, args, below, meth, c⟩, A, D, dA, mi⟩ := G
  obtain ⟨hx, hb, hml, hown, hts, hr, hlk, hK, hnm, hfr, hlc⟩ := hF
  intro r9 dc ds hk he H locs cells slots ls hl hW hS h1 h2 h3
  exact lv_iload_n hx hb hd hi (hl.2.2 i _ hL).1 (k1 r9 dc ds hk he H locs cells slots ls hl hW hS h1 h2 h3)
theorem s_iload (hF : FX G cc nL own ret nm fr lc) {i : Nat} {x : Int32} (hd : decode cc pc = .ok (.iload i, 2)) (hL : L[i]? = some (some (.int x)))
    (k1 : SK G F nL enc (pc + 2) L (.int x :: st) M z k) : SK G F nL enc pc L (st) M z k := by
  obtain ⟨⟨p, l, e, R, s, m, args, below, meth, c⟩, A, D, dA, mi⟩ := G
  obtain ⟨hx, hb, hml, hown, hts, hr, hlk, hK, hnm, hfr, hlc⟩ := hF
  intro r9 dc ds hk he H locs cells slots ls hl hW hS h1 h2 h3
  exact lv_iload hx hb hd (hl.2.2 i _ hL).1 (k1 r9 dc ds hk he H locs cells slots ls hl hW hS h1 h2 h3)
theorem s_aload_n (hF : FX G cc nL own ret nm fr lc) {kf : Fin 4} {i : Nat} {x : Option Nat} (hd : decode cc pc = .ok (.aload_n kf, 1)) (hi : (kf : Nat) = i) (hL : L[i]? = some (some (va_rf x)))
    (k1 : SK G F nL enc (pc + 1) L (va_rf x :: st) M z k) : SK G F nL enc pc L st M z k := by
  obtain ⟨⟨p, l, e, R, s, m, args, below, meth, c⟩, A, D, dA, mi⟩ := G
  obtain ⟨hx, hb, hml, hown, hts, hr, hlk, hK, hnm, hfr, hlc⟩ := hF
  intro r9 dc ds hk he H locs cells slots ls hl hW hS h1 h2 h3
  have hq := (hl.2.2 i _ hL).1
  have kq := k1 r9 dc ds hk he H locs cells slots ls hl hW hS h1 h2 h3
  cases x with
  | none => exact lv_aload_nN hx hb hd hi hq kq
  | some a => exact lv_aload_n hx hb hd hi hq kq
theorem s_aload (hF : FX G cc nL own ret nm fr lc) {i : Nat} {x : Option Nat} (hd : decode cc pc = .ok (.aload i, 2)) (hL : L[i]? = some (some (va_rf x)))
    (k1 : SK G F nL enc (pc + 2) L (va_rf x :: st) M z k) : SK G F nL enc pc L st M z k := by
  obtain ⟨⟨p, l, e, R, s, m, args, below, meth, c⟩, A, D, dA, mi⟩ := G
  obtain ⟨hx, hb, hml, hown, hts, hr, hlk, hK, hnm, hfr, hlc⟩ := hF
  intro r9 dc ds hk he H locs cells slots ls hl hW hS h1 h2 h3
  have hq := (hl.2.2 i _ hL).1
  have kq := k1 r9 dc ds hk he H locs cells slots ls hl hW hS h1 h2 h3
  cases x with
  | none => exact lv_aloadN hx hb hd hq kq
  | some a => exact lv_aload hx hb hd hq kq
theorem s_istore_n (hF : FX G cc nL own ret nm fr lc) {kf : Fin 4} {i : Nat} {x : Int32} {L9 : List (Option Value)} (hd : decode cc pc = .ok (.istore_n kf, 1)) (hi : (kf : Nat) = i) (hn : i < nL) (hs : L.set i (some (.int x)) = L9)
    (k1 : SK G F nL enc (pc + 1) L9 st M z k) : SK G F nL enc pc L (.int x :: st) M z k := by
  obtain ⟨⟨p, l, e, R, s, m, args, below, meth, c⟩, A, D, dA, mi⟩ := G
  obtain ⟨hx, hb, hml, hown, hts, hr, hlk, hK, hnm, hfr, hlc⟩ := hF
  subst hs
  intro r9 dc ds hk he H locs cells slots ls hl hW hS h1 h2 h3
  exact lv_istore_n hx hb hd hi hl.has hn rfl (fun ls9 hl9 => k1 r9 dc ds hk he H locs cells slots ls9 (hl.put rfl hl9) hW hS h1 h2 h3)
theorem s_istore (hF : FX G cc nL own ret nm fr lc) {i : Nat} {x : Int32} {L9 : List (Option Value)} (hd : decode cc pc = .ok (.istore i, 2))  (hn : i < nL) (hs : L.set i (some (.int x)) = L9)
    (k1 : SK G F nL enc (pc + 2) L9 st M z k) : SK G F nL enc pc L (.int x :: st) M z k := by
  obtain ⟨⟨p, l, e, R, s, m, args, below, meth, c⟩, A, D, dA, mi⟩ := G
  obtain ⟨hx, hb, hml, hown, hts, hr, hlk, hK, hnm, hfr, hlc⟩ := hF
  subst hs
  intro r9 dc ds hk he H locs cells slots ls hl hW hS h1 h2 h3
  exact lv_istore hx hb hd hl.has hn rfl (fun ls9 hl9 => k1 r9 dc ds hk he H locs cells slots ls9 (hl.put rfl hl9) hW hS h1 h2 h3)
theorem s_astore_n (hF : FX G cc nL own ret nm fr lc) {kf : Fin 4} {i : Nat} {x : Option Nat} {L9 : List (Option Value)} (hd : decode cc pc = .ok (.astore_n kf, 1)) (hi : (kf : Nat) = i) (hn : i < nL) (hs : L.set i (some (va_rf x)) = L9)
    (k1 : SK G F nL enc (pc + 1) L9 st M z k) : SK G F nL enc pc L (va_rf x :: st) M z k := by
  obtain ⟨⟨p, l, e, R, s, m, args, below, meth, c⟩, A, D, dA, mi⟩ := G
  obtain ⟨hx, hb, hml, hown, hts, hr, hlk, hK, hnm, hfr, hlc⟩ := hF
  subst hs
  intro r9 dc ds hk he H locs cells slots ls hl hW hS h1 h2 h3
  cases x with
  | none => exact lv_astore_nN hx hb hd hi hl.has hn rfl (fun ls9 hl9 => k1 r9 dc ds hk he H locs cells slots ls9 (hl.put rfl hl9) hW hS h1 h2 h3)
  | some a => exact lv_astore_n hx hb hd hi hl.has hn rfl (fun ls9 hl9 => k1 r9 dc ds hk he H locs cells slots ls9 (hl.put rfl hl9) hW hS h1 h2 h3)
theorem s_astore (hF : FX G cc nL own ret nm fr lc) {i : Nat} {x : Option Nat} {L9 : List (Option Value)} (hd : decode cc pc = .ok (.astore i, 2))  (hn : i < nL) (hs : L.set i (some (va_rf x)) = L9)
    (k1 : SK G F nL enc (pc + 2) L9 st M z k) : SK G F nL enc pc L (va_rf x :: st) M z k := by
  obtain ⟨⟨p, l, e, R, s, m, args, below, meth, c⟩, A, D, dA, mi⟩ := G
  obtain ⟨hx, hb, hml, hown, hts, hr, hlk, hK, hnm, hfr, hlc⟩ := hF
  subst hs
  intro r9 dc ds hk he H locs cells slots ls hl hW hS h1 h2 h3
  cases x with
  | none => exact lv_astoreN hx hb hd hl.has hn rfl (fun ls9 hl9 => k1 r9 dc ds hk he H locs cells slots ls9 (hl.put rfl hl9) hW hS h1 h2 h3)
  | some a => exact lv_astore hx hb hd hl.has hn rfl (fun ls9 hl9 => k1 r9 dc ds hk he H locs cells slots ls9 (hl.put rfl hl9) hW hS h1 h2 h3)
theorem s_iinc (hF : FX G cc nL own ret nm fr lc) {i : Nat} {n : Int} {x v : Int32} {L9 : List (Option Value)} (hd : decode cc pc = .ok (.iinc i n, 3)) (hL : L[i]? = some (some (.int x))) (hv : x + Int32.ofInt n = v) (hn : i < nL) (hs : L.set i (some (.int v)) = L9)
    (k1 : SK G F nL enc (pc + 3) L9 st M z k) : SK G F nL enc pc L st M z k := by
  obtain ⟨⟨p, l, e, R, s, m, args, below, meth, c⟩, A, D, dA, mi⟩ := G
  obtain ⟨hx, hb, hml, hown, hts, hr, hlk, hK, hnm, hfr, hlc⟩ := hF
  subst hs
  intro r9 dc ds hk he H locs cells slots ls hl hW hS h1 h2 h3
  obtain ⟨j, hj⟩ := List.getElem?_of_mem (mem_as (q := (i, .int x)).mpr hL)
  exact lv_iinc hx hb hd hl.has (k := j) hj hv hn rfl (fun ls9 hl9 => k1 r9 dc ds hk he H locs cells slots ls9 (hl.put rfl hl9) hW hS h1 h2 h3)
theorem s_if_eq (hF : FX G cc nL own ret nm fr lc) {x : Int32} {off : Int} (tgt : Nat) (hd : decode cc pc = .ok (.ifCond .eq off, 3)) (ht : (pc : Int) + off = (tgt : Int))
    (ka : SK G F nL enc tgt L st M z k) (kb : SK G F nL enc (pc + 3) L st M z k2) : SK G F nL enc pc L (.int x :: st) M z (if x = 0 then k else k2) := by
  obtain ⟨⟨p, l, e, R, s, m, args, below, meth, c⟩, A, D, dA, mi⟩ := G
  obtain ⟨hx, hb, hml, hown, hts, hr, hlk, hK, hnm, hfr, hlc⟩ := hF
  intro r9 dc ds hk he H locs cells slots ls hl hW hS h1 h2 h3
  refine lv_if_eq hx hb hd ht (fun q => ?_) (fun q => ?_)
  · have q' : x = 0 := q
    rw [if_pos q'] at hk
    exact ka r9 dc ds hk he H locs cells slots ls hl hW hS h1 h2 h3
  · have q' : ¬ (x = 0) := q
    rw [if_neg q'] at hk
    exact kb r9 dc ds hk he H locs cells slots ls hl hW hS h1 h2 h3
theorem s_if_ne (hF : FX G cc nL own ret nm fr lc) {x : Int32} {off : Int} (tgt : Nat) (hd : decode cc pc = .ok (.ifCond .ne off, 3)) (ht : (pc : Int) + off = (tgt : Int))
    (ka : SK G F nL enc tgt L st M z k2) (kb : SK G F nL enc (pc + 3) L st M z k) : SK G F nL enc pc L (.int x :: st) M z (if x = 0 then k else k2) := by
  obtain ⟨⟨p, l, e, R, s, m, args, below, meth, c⟩, A, D, dA, mi⟩ := G
  obtain ⟨hx, hb, hml, hown, hts, hr, hlk, hK, hnm, hfr, hlc⟩ := hF
  intro r9 dc ds hk he H locs cells slots ls hl hW hS h1 h2 h3
  refine lv_if_ne hx hb hd ht (fun q => ?_) (fun q => ?_)
  · have q' : ¬ (x = 0) := q
    rw [if_neg q'] at hk
    exact ka r9 dc ds hk he H locs cells slots ls hl hW hS h1 h2 h3
  · have q' : x = 0 := q
    rw [if_pos q'] at hk
    exact kb r9 dc ds hk he H locs cells slots ls hl hW hS h1 h2 h3
theorem s_if_lt (hF : FX G cc nL own ret nm fr lc) {x : Int32} {off : Int} (tgt : Nat) (hd : decode cc pc = .ok (.ifCond .lt off, 3)) (ht : (pc : Int) + off = (tgt : Int))
    (ka : SK G F nL enc tgt L st M z k) (kb : SK G F nL enc (pc + 3) L st M z k2) : SK G F nL enc pc L (.int x :: st) M z (if x < 0 then k else k2) := by
  obtain ⟨⟨p, l, e, R, s, m, args, below, meth, c⟩, A, D, dA, mi⟩ := G
  obtain ⟨hx, hb, hml, hown, hts, hr, hlk, hK, hnm, hfr, hlc⟩ := hF
  intro r9 dc ds hk he H locs cells slots ls hl hW hS h1 h2 h3
  refine lv_if_lt hx hb hd ht (fun q => ?_) (fun q => ?_)
  · have q' : x < 0 := q
    rw [if_pos q'] at hk
    exact ka r9 dc ds hk he H locs cells slots ls hl hW hS h1 h2 h3
  · have q' : ¬ (x < 0) := q
    rw [if_neg q'] at hk
    exact kb r9 dc ds hk he H locs cells slots ls hl hW hS h1 h2 h3
theorem s_if_ge (hF : FX G cc nL own ret nm fr lc) {x : Int32} {off : Int} (tgt : Nat) (hd : decode cc pc = .ok (.ifCond .ge off, 3)) (ht : (pc : Int) + off = (tgt : Int))
    (ka : SK G F nL enc tgt L st M z k2) (kb : SK G F nL enc (pc + 3) L st M z k) : SK G F nL enc pc L (.int x :: st) M z (if x < 0 then k else k2) := by
  obtain ⟨⟨p, l, e, R, s, m, args, below, meth, c⟩, A, D, dA, mi⟩ := G
  obtain ⟨hx, hb, hml, hown, hts, hr, hlk, hK, hnm, hfr, hlc⟩ := hF
  intro r9 dc ds hk he H locs cells slots ls hl hW hS h1 h2 h3
  refine lv_if_ge hx hb hd ht (fun q => ?_) (fun q => ?_)
  · have q' : ¬ (x < 0) := Int32.not_lt.mpr q
    rw [if_neg q'] at hk
    exact ka r9 dc ds hk he H locs cells slots ls hl hW hS h1 h2 h3
  · have q' : x < 0 := Int32.not_le.mp q
    rw [if_pos q'] at hk
    exact kb r9 dc ds hk he H locs cells slots ls hl hW hS h1 h2 h3
theorem s_if_gt (hF : FX G cc nL own ret nm fr lc) {x : Int32} {off : Int} (tgt : Nat) (hd : decode cc pc = .ok (.ifCond .gt off, 3)) (ht : (pc : Int) + off = (tgt : Int))
    (ka : SK G F nL enc tgt L st M z k) (kb : SK G F nL enc (pc + 3) L st M z k2) : SK G F nL enc pc L (.int x :: st) M z (if 0 < x then k else k2) := by
  obtain ⟨⟨p, l, e, R, s, m, args, below, meth, c⟩, A, D, dA, mi⟩ := G
  obtain ⟨hx, hb, hml, hown, hts, hr, hlk, hK, hnm, hfr, hlc⟩ := hF
  intro r9 dc ds hk he H locs cells slots ls hl hW hS h1 h2 h3
  refine lv_if_gt hx hb hd ht (fun q => ?_) (fun q => ?_)
  · have q' : 0 < x := q
    rw [if_pos q'] at hk
    exact ka r9 dc ds hk he H locs cells slots ls hl hW hS h1 h2 h3
  · have q' : ¬ (0 < x) := q
    rw [if_neg q'] at hk
    exact kb r9 dc ds hk he H locs cells slots ls hl hW hS h1 h2 h3
theorem s_if_le (hF : FX G cc nL own ret nm fr lc) {x : Int32} {off : Int} (tgt : Nat) (hd : decode cc pc = .ok (.ifCond .le off, 3)) (ht : (pc : Int) + off = (tgt : Int))
    (ka : SK G F nL enc tgt L st M z k2) (kb : SK G F nL enc (pc + 3) L st M z k) : SK G F nL enc pc L (.int x :: st) M z (if 0 < x then k else k2) := by
  obtain ⟨⟨p, l, e, R, s, m, args, below, meth, c⟩, A, D, dA, mi⟩ := G
  obtain ⟨hx, hb, hml, hown, hts, hr, hlk, hK, hnm, hfr, hlc⟩ := hF
  intro r9 dc ds hk he H locs cells slots ls hl hW hS h1 h2 h3
  refine lv_if_le hx hb hd ht (fun q => ?_) (fun q => ?_)
  · have q' : ¬ (0 < x) := Int32.not_lt.mpr q
    rw [if_neg q'] at hk
    exact ka r9 dc ds hk he H locs cells slots ls hl hW hS h1 h2 h3
  · have q' : 0 < x := Int32.not_le.mp q
    rw [if_pos q'] at hk
    exact kb r9 dc ds hk he H locs cells slots ls hl hW hS h1 h2 h3
theorem s_icmp_eq (hF : FX G cc nL own ret nm fr lc) {x y : Int32} {off : Int} (tgt : Nat) (hd : decode cc pc = .ok (.if_icmp .eq off, 3)) (ht : (pc : Int) + off = (tgt : Int))
    (ka : SK G F nL enc tgt L st M z k) (kb : SK G F nL enc (pc + 3) L st M z k2) : SK G F nL enc pc L (.int y :: .int x :: st) M z (if x = y then k else k2) := by
  obtain ⟨⟨p, l, e, R, s, m, args, below, meth, c⟩, A, D, dA, mi⟩ := G
  obtain ⟨hx, hb, hml, hown, hts, hr, hlk, hK, hnm, hfr, hlc⟩ := hF
  intro r9 dc ds hk he H locs cells slots ls hl hW hS h1 h2 h3
  refine lv_icmp_eq hx hb hd ht (fun q => ?_) (fun q => ?_)
  · have q' : x = y := q
    rw [if_pos q'] at hk
    exact ka r9 dc ds hk he H locs cells slots ls hl hW hS h1 h2 h3
  · have q' : ¬ (x = y) := q
    rw [if_neg q'] at hk
    exact kb r9 dc ds hk he H locs cells slots ls hl hW hS h1 h2 h3
theorem s_icmp_ne (hF : FX G cc nL own ret nm fr lc) {x y : Int32} {off : Int} (tgt : Nat) (hd : decode cc pc = .ok (.if_icmp .ne off, 3)) (ht : (pc : Int) + off = (tgt : Int))
    (ka : SK G F nL enc tgt L st M z k2) (kb : SK G F nL enc (pc + 3) L st M z k) : SK G F nL enc pc L (.int y :: .int x :: st) M z (if x = y then k else k2) := by
  obtain ⟨⟨p, l, e, R, s, m, args, below, meth, c⟩, A, D, dA, mi⟩ := G
  obtain ⟨hx, hb, hml, hown, hts, hr, hlk, hK, hnm, hfr, hlc⟩ := hF
  intro r9 dc ds hk he H locs cells slots ls hl hW hS h1 h2 h3
  refine lv_icmp_ne hx hb hd ht (fun q => ?_) (fun q => ?_)
  · have q' : ¬ (x = y) := q
    rw [if_neg q'] at hk
    exact ka r9 dc ds hk he H locs cells slots ls hl hW hS h1 h2 h3
  · have q' : x = y := q
    rw [if_pos q'] at hk
    exact kb r9 dc ds hk he H locs cells slots ls hl hW hS h1 h2 h3
theorem s_icmp_lt (hF : FX G cc nL own ret nm fr lc) {x y : Int32} {off : Int} (tgt : Nat) (hd : decode cc pc = .ok (.if_icmp .lt off, 3)) (ht : (pc : Int) + off = (tgt : Int))
    (ka : SK G F nL enc tgt L st M z k) (kb : SK G F nL enc (pc + 3) L st M z k2) : SK G F nL enc pc L (.int y :: .int x :: st) M z (if x < y then k else k2) := by
  obtain ⟨⟨p, l, e, R, s, m, args, below, meth, c⟩, A, D, dA, mi⟩ := G
  obtain ⟨hx, hb, hml, hown, hts, hr, hlk, hK, hnm, hfr, hlc⟩ := hF
  intro r9 dc ds hk he H locs cells slots ls hl hW hS h1 h2 h3
  refine lv_icmp_lt hx hb hd ht (fun q => ?_) (fun q => ?_)
  · have q' : x < y := q
    rw [if_pos q'] at hk
    exact ka r9 dc ds hk he H locs cells slots ls hl hW hS h1 h2 h3
  · have q' : ¬ (x < y) := q
    rw [if_neg q'] at hk
    exact kb r9 dc ds hk he H locs cells slots ls hl hW hS h1 h2 h3
theorem s_icmp_ge (hF : FX G cc nL own ret nm fr lc) {x y : Int32} {off : Int} (tgt : Nat) (hd : decode cc pc = .ok (.if_icmp .ge off, 3)) (ht : (pc : Int) + off = (tgt : Int))
    (ka : SK G F nL enc tgt L st M z k2) (kb : SK G F nL enc (pc + 3) L st M z k) : SK G F nL enc pc L (.int y :: .int x :: st) M z (if x < y then k else k2) := by
  obtain ⟨⟨p, l, e, R, s, m, args, below, meth, c⟩, A, D, dA, mi⟩ := G
  obtain ⟨hx, hb, hml, hown, hts, hr, hlk, hK, hnm, hfr, hlc⟩ := hF
  intro r9 dc ds hk he H locs cells slots ls hl hW hS h1 h2 h3
  refine lv_icmp_ge hx hb hd ht (fun q => ?_) (fun q => ?_)
  · have q' : ¬ (x < y) := Int32.not_lt.mpr q
    rw [if_neg q'] at hk
    exact ka r9 dc ds hk he H locs cells slots ls hl hW hS h1 h2 h3
  · have q' : x < y := Int32.not_le.mp q
    rw [if_pos q'] at hk
    exact kb r9 dc ds hk he H locs cells slots ls hl hW hS h1 h2 h3
theorem s_icmp_gt (hF : FX G cc nL own ret nm fr lc) {x y : Int32} {off : Int} (tgt : Nat) (hd : decode cc pc = .ok (.if_icmp .gt off, 3)) (ht : (pc : Int) + off = (tgt : Int))
    (ka : SK G F nL enc tgt L st M z k) (kb : SK G F nL enc (pc + 3) L st M z k2) : SK G F nL enc pc L (.int y :: .int x :: st) M z (if y < x then k else k2) := by
  obtain ⟨⟨p, l, e, R, s, m, args, below, meth, c⟩, A, D, dA, mi⟩ := G
  obtain ⟨hx, hb, hml, hown, hts, hr, hlk, hK, hnm, hfr, hlc⟩ := hF
  intro r9 dc ds hk he H locs cells slots ls hl hW hS h1 h2 h3
  refine lv_icmp_gt hx hb hd ht (fun q => ?_) (fun q => ?_)
  · have q' : y < x := q
    rw [if_pos q'] at hk
    exact ka r9 dc ds hk he H locs cells slots ls hl hW hS h1 h2 h3
  · have q' : ¬ (y < x) := q
    rw [if_neg q'] at hk
    exact kb r9 dc ds hk he H locs cells slots ls hl hW hS h1 h2 h3
theorem s_icmp_le (hF : FX G cc nL own ret nm fr lc) {x y : Int32} {off : Int} (tgt : Nat) (hd : decode cc pc = .ok (.if_icmp .le off, 3)) (ht : (pc : Int) + off = (tgt : Int))
    (ka : SK G F nL enc tgt L st M z k2) (kb : SK G F nL enc (pc + 3) L st M z k) : SK G F nL enc pc L (.int y :: .int x :: st) M z (if y < x then k else k2) := by
  obtain ⟨⟨p, l, e, R, s, m, args, below, meth, c⟩, A, D, dA, mi⟩ := G
  obtain ⟨hx, hb, hml, hown, hts, hr, hlk, hK, hnm, hfr, hlc⟩ := hF
  intro r9 dc ds hk he H locs cells slots ls hl hW hS h1 h2 h3
  refine lv_icmp_le hx hb hd ht (fun q => ?_) (fun q => ?_)
  · have q' : ¬ (y < x) := Int32.not_lt.mpr q
    rw [if_neg q'] at hk
    exact ka r9 dc ds hk he H locs cells slots ls hl hW hS h1 h2 h3
  · have q' : y < x := Int32.not_le.mp q
    rw [if_pos q'] at hk
    exact kb r9 dc ds hk he H locs cells slots ls hl hW hS h1 h2 h3
theorem s_acmp_eq (hF : FX G cc nL own ret nm fr lc) {x y : Option Nat} {off : Int} (tgt : Nat) (hd : decode cc pc = .ok (.if_acmp .eq off, 3)) (ht : (pc : Int) + off = (tgt : Int))
    (ka : SK G F nL enc tgt L st M z k) (kb : SK G F nL enc (pc + 3) L st M z k2) : SK G F nL enc pc L (va_rf y :: va_rf x :: st) M z (if x = y then k else k2) := by
  obtain ⟨⟨p, l, e, R, s, m, args, below, meth, c⟩, A, D, dA, mi⟩ := G
  obtain ⟨hx, hb, hml, hown, hts, hr, hlk, hK, hnm, hfr, hlc⟩ := hF
  intro r9 dc ds hk he H locs cells slots ls hl hW hS h1 h2 h3
  refine lv_acmp_eq hx hb hd ht (fun q => ?_) (fun q => ?_)
  · have q' : x = y := q
    rw [if_pos q'] at hk
    exact ka r9 dc ds hk he H locs cells slots ls hl hW hS h1 h2 h3
  · have q' : ¬ (x = y) := q
    rw [if_neg q'] at hk
    exact kb r9 dc ds hk he H locs cells slots ls hl hW hS h1 h2 h3
theorem s_acmp_ne (hF : FX G cc nL own ret nm fr lc) {x y : Option Nat} {off : Int} (tgt : Nat) (hd : decode cc pc = .ok (.if_acmp .ne off, 3)) (ht : (pc : Int) + off = (tgt : Int))
    (ka : SK G F nL enc tgt L st M z k2) (kb : SK G F nL enc (pc + 3) L st M z k) : SK G F nL enc pc L (va_rf y :: va_rf x :: st) M z (if x = y then k else k2) := by
  obtain ⟨⟨p, l, e, R, s, m, args, below, meth, c⟩, A, D, dA, mi⟩ := G
  obtain ⟨hx, hb, hml, hown, hts, hr, hlk, hK, hnm, hfr, hlc⟩ := hF
  intro r9 dc ds hk he H locs cells slots ls hl hW hS h1 h2 h3
  refine lv_acmp_ne hx hb hd ht (fun q => ?_) (fun q => ?_)
  · have q' : ¬ (x = y) := q
    rw [if_neg q'] at hk
    exact ka r9 dc ds hk he H locs cells slots ls hl hW hS h1 h2 h3
  · have q' : x = y := q
    rw [if_pos q'] at hk
    exact kb r9 dc ds hk he H locs cells slots ls hl hW hS h1 h2 h3
theorem s_ifnull (hF : FX G cc nL own ret nm fr lc) {x : Option Nat} {off : Int} (tgt : Nat) (hd : decode cc pc = .ok (.ifnull off, 3)) (ht : (pc : Int) + off = (tgt : Int))
    (ka : SK G F nL enc tgt L st M z k) (kb : SK G F nL enc (pc + 3) L st M z k2) : SK G F nL enc pc L (va_rf x :: st) M z (if x = none then k else k2) := by
  obtain ⟨⟨p, l, e, R, s, m, args, below, meth, c⟩, A, D, dA, mi⟩ := G
  obtain ⟨hx, hb, hml, hown, hts, hr, hlk, hK, hnm, hfr, hlc⟩ := hF
  intro r9 dc ds hk he H locs cells slots ls hl hW hS h1 h2 h3
  cases x with
  | none =>
    rw [if_pos rfl] at hk
    exact lv_ifnullN hx hb hd ht (ka r9 dc ds hk he H locs cells slots ls hl hW hS h1 h2 h3)
  | some a =>
    rw [if_neg (by simp)] at hk
    exact lv_ifnull hx hb hd (kb r9 dc ds hk he H locs cells slots ls hl hW hS h1 h2 h3)
theorem s_ifnonnull (hF : FX G cc nL own ret nm fr lc) {x : Option Nat} {off : Int} (tgt : Nat) (hd : decode cc pc = .ok (.ifnonnull off, 3)) (ht : (pc : Int) + off = (tgt : Int))
    (ka : SK G F nL enc tgt L st M z k2) (kb : SK G F nL enc (pc + 3) L st M z k) : SK G F nL enc pc L (va_rf x :: st) M z (if x = none then k else k2) := by
  obtain ⟨⟨p, l, e, R, s, m, args, below, meth, c⟩, A, D, dA, mi⟩ := G
  obtain ⟨hx, hb, hml, hown, hts, hr, hlk, hK, hnm, hfr, hlc⟩ := hF
  intro r9 dc ds hk he H locs cells slots ls hl hW hS h1 h2 h3
  cases x with
  | none =>
    rw [if_pos rfl] at hk
    exact lv_ifnonnullN hx hb hd (kb r9 dc ds hk he H locs cells slots ls hl hW hS h1 h2 h3)
  | some a =>
    rw [if_neg (by simp)] at hk
    exact lv_ifnonnull hx hb hd ht (ka r9 dc ds hk he H locs cells slots ls hl hW hS h1 h2 h3)
theorem s_goto (hF : FX G cc nL own ret nm fr lc) {off : Int} (tgt : Nat) (hd : decode cc pc = .ok (.goto off, 3)) (ht : (pc : Int) + off = (tgt : Int))
    (k1 : SK G F nL enc tgt L st M z k) : SK G F nL enc pc L st M z k := by
  obtain ⟨⟨p, l, e, R, s, m, args, below, meth, c⟩, A, D, dA, mi⟩ := G
  obtain ⟨hx, hb, hml, hown, hts, hr, hlk, hK, hnm, hfr, hlc⟩ := hF
  intro r9 dc ds hk he H locs cells slots ls hl hW hS h1 h2 h3
  exact lv_goto hx hb hd ht (k1 r9 dc ds hk he H locs cells slots ls hl hW hS h1 h2 h3)
theorem s_case (hF : FX G cc nL own ret nm fr lc) {x v : Int32} {dflt lo9 hi : Int} {offs : Array Int} {len : Nat} {off : Int} (tgt : Nat) (hd : decode cc pc = .ok (.tableswitch dflt lo9 hi offs, len)) (hv : ¬ v.toInt < lo9 ∧ ¬ hi < v.toInt) (ho : offs[(v.toInt - lo9).toNat]? = some off) (ht : (pc : Int) + off = (tgt : Int))
    (ka : SK G F nL enc tgt L st M z k) (kb : ¬ x = v → SK G F nL enc pc L (.int x :: st) M z k2) : SK G F nL enc pc L (.int x :: st) M z (if x = v then k else k2) := by
  by_cases q : x = v
  · rw [if_pos q]
    subst q
    obtain ⟨⟨p, l, e, R, s, m, args, below, meth, c⟩, A, D, dA, mi⟩ := G
    obtain ⟨hx, hb, hml, hown, hts, hr, hlk, hK, hnm, hfr, hlc⟩ := hF
    intro r9 dc ds hk he H locs cells slots ls hl hW hS h1 h2 h3
    exact lv_tableIn hx hb hd hv.1 hv.2 ho ht (ka r9 dc ds hk he H locs cells slots ls hl hW hS h1 h2 h3)
  · rw [if_neg q]
    exact kb q
theorem s_dflt (hF : FX G cc nL own ret nm fr lc) {x : Int32} {dflt lo9 hi : Int} {offs : Array Int} {len : Nat} (tgt : Nat) (hd : decode cc pc = .ok (.tableswitch dflt lo9 hi offs, len)) (hv : x.toInt < lo9 ∨ hi < x.toInt) (ht : (pc : Int) + dflt = (tgt : Int))
    (ka : SK G F nL enc tgt L st M z k) : SK G F nL enc pc L (.int x :: st) M z k := by
  obtain ⟨⟨p, l, e, R, s, m, args, below, meth, c⟩, A, D, dA, mi⟩ := G
  obtain ⟨hx, hb, hml, hown, hts, hr, hlk, hK, hnm, hfr, hlc⟩ := hF
  intro r9 dc ds hk he H locs cells slots ls hl hW hS h1 h2 h3
  exact lv_tableOut hx hb hd hv ht (ka r9 dc ds hk he H locs cells slots ls hl hW hS h1 h2 h3)
theorem s_ldc (hF : FX G cc nL own ret nm fr lc) {idx : Nat} {v : Int32} (hc : Cond.constant own idx v ∈ lw_all) (hd : decode cc pc = .ok (.ldc idx, 2))
    (k1 : SK G F nL enc (pc + 2) L (.int v :: st) M z k) : SK G F nL enc pc L st M z k := by
  obtain ⟨⟨p, l, e, R, s, m, args, below, meth, c⟩, A, D, dA, mi⟩ := G
  obtain ⟨hx, hb, hml, hown, hts, hr, hlk, hK, hnm, hfr, hlc⟩ := hF
  intro r9 dc ds hk he H locs cells slots ls hl hW hS h1 h2 h3
  exact lv_ldc hx hb hown (hts _ hc) hd (k1 r9 dc ds hk he H locs cells slots ls hl hW hS h1 h2 h3)
theorem s_iret (hF : FX G cc nL own (some .int) nm fr lc) {v : Int32} (hd : decode cc pc = .ok (.ireturn, 1)) : SK G F nL eI pc L [.int v] M z (some (v, M, 0, 0)) := by
  obtain ⟨⟨p, l, e, R, s, m, args, below, meth, c⟩, A, D, dA, mi⟩ := G
  obtain ⟨hx, hb, hml, hown, hts, hr, hlk, hK, hnm, hfr, hlc⟩ := hF
  intro r9 dc ds hk he H locs cells slots ls hl hW hS h1 h2 h3
  simp only [Option.some.injEq, Prod.mk.injEq] at hk
  obtain ⟨rfl, hm9, rfl, rfl⟩ := hk
  have e1 : cells = R.cells := h1
  have e2 : slots = R.slots := h2
  have e3 : z = F.2.2 := h3
  rw [← e1, ← e2]
  exact W.iret hx hb hr (fun t ht _ => ⟨by rw [← he]; rfl, by rw [ht, ← hm9, ← e3]; exact hW, hS.F ht⟩) hS.2.2 hd hlk
theorem s_zret (hF : FX G cc nL own (some .boolean) nm fr lc) {v : Int32} (hd : decode cc pc = .ok (.ireturn, 1)) : SK G F nL eI pc L [.int v] M z (if v = 0 ∨ v = 1 then some (v, M, 0, 0) else none) := by
  refine SK.chk fun hv => ?_
  obtain ⟨⟨p, l, e, R, s, m, args, below, meth, c⟩, A, D, dA, mi⟩ := G
  obtain ⟨hx, hb, hml, hown, hts, hr, hlk, hK, hnm, hfr, hlc⟩ := hF
  intro r9 dc ds hk he H locs cells slots ls hl hW hS h1 h2 h3
  simp only [Option.some.injEq, Prod.mk.injEq] at hk
  obtain ⟨rfl, hm9, rfl, rfl⟩ := hk
  have e1 : cells = R.cells := h1
  have e2 : slots = R.slots := h2
  have e3 : z = F.2.2 := h3
  rw [← e1, ← e2]
  exact W.zret hx hb hr (by rcases hv with rfl | rfl <;> rfl) (fun t ht _ => ⟨by rw [← he]; rfl, by rw [ht, ← hm9, ← e3]; exact hW, hS.F ht⟩) hS.2.2 hd hlk
theorem s_aret (hF : FX G cc nL own ret nm fr lc) {rt : FieldType} (hrt : ret = some rt) (ho : (∃ n, rt = .object n) ∨ ∃ t, rt = .array t) {v : Option Nat} (hd : decode cc pc = .ok (.areturn, 1)) : SK G F nL eR pc L [va_rf v] M z (some (v, M, 0, 0)) := by
  obtain ⟨⟨p, l, e, R, s, m, args, below, meth, c⟩, A, D, dA, mi⟩ := G
  obtain ⟨hx, hb, hml, hown, hts, hr, hlk, hK, hnm, hfr, hlc⟩ := hF
  intro r9 dc ds hk he H locs cells slots ls hl hW hS h1 h2 h3
  simp only [Option.some.injEq, Prod.mk.injEq] at hk
  obtain ⟨rfl, hm9, rfl, rfl⟩ := hk
  have e1 : cells = R.cells := h1
  have e2 : slots = R.slots := h2
  have e3 : z = F.2.2 := h3
  rw [← e1, ← e2]
  exact W.aret hx hb (hr.trans hrt) ho (va_rf_or _) (fun t ht _ => ⟨by rw [← he]; rfl, by rw [ht, ← hm9, ← e3]; exact hW, hS.F ht⟩) hS.2.2 hd hlk
theorem s_vret (hF : FX G cc nL own none nm fr lc) (hd : decode cc pc = .ok (.return_, 1)) : SK G F nL eV pc L [] M z (some ((), M, 0, 0)) := by
  obtain ⟨⟨p, l, e, R, s, m, args, below, meth, c⟩, A, D, dA, mi⟩ := G
  obtain ⟨hx, hb, hml, hown, hts, hr, hlk, hK, hnm, hfr, hlc⟩ := hF
  intro r9 dc ds hk he H locs cells slots ls hl hW hS h1 h2 h3
  simp only [Option.some.injEq, Prod.mk.injEq] at hk
  obtain ⟨-, hm9, rfl, rfl⟩ := hk
  have e1 : cells = R.cells := h1
  have e2 : slots = R.slots := h2
  have e3 : z = F.2.2 := h3
  rw [← e1, ← e2]
  exact W.vret hx hb hr (fun t ht _ => ⟨by rw [← he]; rfl, by rw [ht, ← hm9, ← e3]; exact hW, hS.F ht⟩) hS.2.2 hd hlk
end SIM
