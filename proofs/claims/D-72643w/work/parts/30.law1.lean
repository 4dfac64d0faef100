/-! THE CLAIM OUT OF ONE WALK OF THE LAW'S BODY. Your part is whole_start (and what it stands on); all else here is the same for every law, but numbers. -/
def R_law : String := "StoryColumnsLaw"
def lw_P (b : Addr) (xs : List Int32) (args : Array Value) (s : State) : Prop := args = #[.ref b] ∧ s.IntsAt b xs ∧ xs.length ≤ 448 ∧ (Jvm.Cond.and given_1 narrow_1).before args s = true
def lw_Q (_ : Array Value) (s : State) (o : Outcome) (t : State) : Prop := o = .returned (some (.int 1)) ∧ Framed s o t [] 837981 6588305
def lw_Z (below : List Frame) (a : Array Value) (s : State) : State → Prop := fun t => ∃ o, t.status = .running ∧ Ended t below o ∧ lw_Q a s o t
/-- the law's own end, with 1 on the stack, nothing written that was there before, its room as the claim has it -/
theorem lw_ret {p : Program} {l : Launch} {e : Env} {s : State} {m : MethodId} {below : List Frame} {meth : Method} {c : Code} {b : Nat} (hx : p.tables.exec = Jvm.exec) (hb : c.code = code) (hr : meth.sig.returnType = ret) (hlocks : meth.locks = false) {pc : Nat} {H : Heap} {ls : Array Slot} (hdg : decode code pc = .ok (.ireturn, 1)) : W p l e room_1 s m #[Value.ref b] below meth c H [] 837981 6588305 (lw_Z below #[Value.ref b] s) (F0 m pc ls [.int 1]) := by
  intro T hT X
  obtain ⟨fs, hret, hrun, hended, hW, hframe⟩ := X.leave (v := some (.int 1)) (hlocks := hlocks) (fun h => by rw [hr] at h; cases h)
  have hmeth' : T.vm.method? m = some meth := X.method'
  refine ⟨T.setFrames fs, ?_, .returned (some (.int 1)), hrun, hended, rfl, ⟨_, rfl⟩, hW, hframe⟩
  jvm_step X.here [X.here.top, hx, hb, hdg, hmeth', hr, ret, narrow_b1]
  (try refine ⟨rfl, ?_⟩); (try refine ⟨rfl, ?_⟩)
  first | (intro acts; rw [hret _ acts rfl rfl rfl]) | rw [hret _ _ rfl rfl rfl]
  exact Steps.refl _
/-- what holds at the law's entry: the machine, the code, the tables' words (any of lw_tbl by 'hts w (by decide +kernel)'), the script of L ints xs at the cell b, what the Statement gives of the start (any of its parts by flat_of_before) -/
def lw_At (p : Program) (s : State) (m : MethodId) (meth : Method) (c : Code) (b L : Nat) (xs : Nat → Int32) : Prop :=
  p.tables.exec = Jvm.exec ∧ c.code = code ∧ meth.sig.returnType = ret ∧ c.maxLocals = 4 ∧ s.vm.findClass R_law = some m.cls ∧ (∀ w ∈ lw_tbl, w.before #[Value.ref b] s = true) ∧ va_X b L xs s s.heap ∧ b < s.heap.size ∧ meth.locks = false ∧ (Jvm.Cond.and given_1 narrow_1).before #[Value.ref b] s = true
set_option maxRecDepth 100000
/-! ===== THE LAW: two worlds side by side, the class's and the reference's ===== -/
/-- one call on each side: the same answer, and the relation holds on -/
def OpOk (J : Mp → Mp → Prop) (fc fm : Mp → Nat → Rs Int32) : Prop := ∀ (Mc Mm : Mp) (z : Nat), J Mc Mm → (∀ a, z ≤ a → Mc a = none) → ∃ r Mc' dc ds Mm', fc Mc z = some (r, Mc', dc, ds) ∧ dc ≤ 12000 ∧ ds ≤ 90000 ∧ fm Mm (z + dc) = some (r, Mm', 0, 0) ∧ J Mc' Mm'
abbrev LCx : Type := Program × Launch × Env × State × MethodId × List Frame × Method × Code × Nat × va_G × (Nat → Nat) × Nat
def LF (X : LCx) (n : Nat) (xs : Nat → Int32) : Prop := match X with
  | (p, _, _, s, m, _, meth, c, b, D, dA, mi) => p.tables.exec = Jvm.exec ∧ c.code = code ∧ c.maxLocals = 4 ∧ s.vm.findClass R_law = some m.cls ∧ (∀ w ∈ lw_all, w.before #[Value.ref b] s = true) ∧ meth.sig.returnType = ret ∧ meth.locks = false ∧ Kx D dA mi s ∧ va_X b n xs s s.heap ∧ b < s.heap.size
def W2 (s : State) (D : va_G) (dA : Nat → Nat) (Mc Mm : Mp) (z : Nat) (H : Heap) : Prop := Wd (fun q => s.heap.size ≤ q) D dA Mc z H ∧ Wd (fun q => s.heap.size ≤ q) D dA Mm z H ∧ ∀ a, Mc a ≠ none → Mm a = none
theorem W2.swap {s : State} {D : va_G} {dA : Nat → Nat} {Mc Mm : Mp} {z : Nat} {H : Heap} (h : W2 s D dA Mc Mm z H) : W2 s D dA Mm Mc z H := ⟨h.2.1, h.1, fun a ha => by
  cases hc : Mc a with
  | none => rfl
  | some e => exact absurd (h.2.2 a (by rw [hc]; simp)) ha⟩
def LW (X : LCx) (pc : Nat) (L : List (Option Value)) (st : List Value) (Mc Mm : Mp) (z cells slots : Nat) : Prop := match X with
  | (p, l, e, s, m, below, meth, c, b, D, dA, _) => ∀ (H : Heap) (locs : List Loc) (ls : Array Slot), lo ls 4 L → W2 s D dA Mc Mm z H → va_S (fun q => s.heap.size ≤ q) s.heap H locs → W p l e room_1 s m #[Value.ref b] below meth c H locs cells slots (lw_Z below #[Value.ref b] s) (F0 m pc ls st)
section LAWROWS
variable {X : LCx} {n : Nat} {xs : Nat → Int32} {pc z cells slots : Nat} {L : List (Option Value)} {st : List Value} {Mc Mm : Mp}
theorem LW.swap (h : LW X pc L st Mc Mm z cells slots) : LW X pc L st Mm Mc z cells slots := by
  obtain ⟨p, l, e, s, m, below, meth, c, b, D, dA, mi⟩ := X
  intro H locs ls hl hW hS
  exact h H locs ls hl hW.swap hS
theorem LW.wide {c2 s2 : Nat} (h : LW X pc L st Mc Mm z c2 s2) (h1 : cells ≤ c2) (h2 : slots ≤ s2) : LW X pc L st Mc Mm z cells slots := by
  obtain ⟨p, l, e, s, m, below, meth, c, b, D, dA, mi⟩ := X
  intro H locs ls hl hW hS
  exact W.widen h1 h2 (h H locs ls hl hW hS)
theorem LW.sub {L' : List (Option Value)} (h : LW X pc L' st Mc Mm z cells slots) (hs : subL L' L) : LW X pc L st Mc Mm z cells slots := by
  obtain ⟨p, l, e, s, m, below, meth, c, b, D, dA, mi⟩ := X
  intro H locs ls hl hW hS
  exact h H locs ls (hl.sub hs) hW hS
theorem l_iconst (hF : LF X n xs) {k : Int} (hd : decode code pc = .ok (.iconst k, 1)) (v : Int32) (hv : Int32.ofInt k = v) (k1 : LW X (pc + 1) L (.int v :: st) Mc Mm z cells slots) : LW X pc L st Mc Mm z cells slots := by
  obtain ⟨p, l, e, s, m, below, meth, c, b, D, dA, mi⟩ := X
  intro H locs ls hl hW hS
  exact lv_iconst hF.1 hF.2.1 hd hv (k1 H locs ls hl hW hS)
theorem l_bipush (hF : LF X n xs) {k : Int} (hd : decode code pc = .ok (.bipush k, 2)) (v : Int32) (hv : (Int8.ofInt k).toInt32 = v) (k1 : LW X (pc + 2) L (.int v :: st) Mc Mm z cells slots) : LW X pc L st Mc Mm z cells slots := by
  obtain ⟨p, l, e, s, m, below, meth, c, b, D, dA, mi⟩ := X
  intro H locs ls hl hW hS
  exact lv_bipush hF.1 hF.2.1 hd hv (k1 H locs ls hl hW hS)
theorem l_iadd (hF : LF X n xs) {x y v : Int32} (hd : decode code pc = .ok (.iadd, 1)) (hv : x + y = v) (k1 : LW X (pc + 1) L (.int v :: st) Mc Mm z cells slots) : LW X pc L (.int y :: .int x :: st) Mc Mm z cells slots := by
  subst hv
  obtain ⟨p, l, e, s, m, below, meth, c, b, D, dA, mi⟩ := X
  intro H locs ls hl hW hS
  exact lv_iadd hF.1 hF.2.1 hd (k1 H locs ls hl hW hS)
theorem l_isub (hF : LF X n xs) {x y : Int32} (hd : decode code pc = .ok (.isub, 1)) (k1 : LW X (pc + 1) L (.int (x - y) :: st) Mc Mm z cells slots) : LW X pc L (.int y :: .int x :: st) Mc Mm z cells slots := by
  obtain ⟨p, l, e, s, m, below, meth, c, b, D, dA, mi⟩ := X
  intro H locs ls hl hW hS
  exact lv_isub hF.1 hF.2.1 hd (k1 H locs ls hl hW hS)
theorem l_iand (hF : LF X n xs) {x y : Int32} (hd : decode code pc = .ok (.iand, 1)) (k1 : LW X (pc + 1) L (.int (x &&& y) :: st) Mc Mm z cells slots) : LW X pc L (.int y :: .int x :: st) Mc Mm z cells slots := by
  obtain ⟨p, l, e, s, m, below, meth, c, b, D, dA, mi⟩ := X
  intro H locs ls hl hW hS
  exact lv_iand hF.1 hF.2.1 hd (k1 H locs ls hl hW hS)
theorem l_dup (hF : LF X n xs) {v : Value} (hd : decode code pc = .ok (.dup, 1)) (hv : v.category = 1) (k1 : LW X (pc + 1) L (v :: v :: st) Mc Mm z cells slots) : LW X pc L (v :: st) Mc Mm z cells slots := by
  obtain ⟨p, l, e, s, m, below, meth, c, b, D, dA, mi⟩ := X
  intro H locs ls hl hW hS
  exact lv_dup hF.1 hF.2.1 hd hv (k1 H locs ls hl hW hS)
theorem l_iload (hF : LF X n xs) {kf : Fin 4} {i : Nat} {x : Int32} (hd : decode code pc = .ok (.iload_n kf, 1)) (hi : (kf : Nat) = i) (hL : L[i]? = some (some (.int x))) (k1 : LW X (pc + 1) L (.int x :: st) Mc Mm z cells slots) : LW X pc L st Mc Mm z cells slots := by
  obtain ⟨p, l, e, s, m, below, meth, c, b, D, dA, mi⟩ := X
  intro H locs ls hl hW hS
  exact lv_iload_n hF.1 hF.2.1 hd hi (hl.2.2 i _ hL).1 (k1 H locs ls hl hW hS)
theorem l_aload (hF : LF X n xs) {kf : Fin 4} {i x : Nat} (hd : decode code pc = .ok (.aload_n kf, 1)) (hi : (kf : Nat) = i) (hL : L[i]? = some (some (.ref x))) (k1 : LW X (pc + 1) L (.ref x :: st) Mc Mm z cells slots) : LW X pc L st Mc Mm z cells slots := by
  obtain ⟨p, l, e, s, m, below, meth, c, b, D, dA, mi⟩ := X
  intro H locs ls hl hW hS
  exact lv_aload_n hF.1 hF.2.1 hd hi (hl.2.2 i _ hL).1 (k1 H locs ls hl hW hS)
theorem l_istore (hF : LF X n xs) {kf : Fin 4} {i : Nat} {x : Int32} {L9 : List (Option Value)} (hd : decode code pc = .ok (.istore_n kf, 1)) (hi : (kf : Nat) = i) (hn : i < 4) (hs : L.set i (some (.int x)) = L9) (k1 : LW X (pc + 1) L9 st Mc Mm z cells slots) : LW X pc L (.int x :: st) Mc Mm z cells slots := by
  subst hs
  obtain ⟨p, l, e, s, m, below, meth, c, b, D, dA, mi⟩ := X
  intro H locs ls hl hW hS
  exact lv_istore_n hF.1 hF.2.1 hd hi hl.has hn rfl (fun ls9 hl9 => k1 H locs ls9 (hl.put rfl hl9) hW hS)
theorem l_astore (hF : LF X n xs) {kf : Fin 4} {i x : Nat} {L9 : List (Option Value)} (hd : decode code pc = .ok (.astore_n kf, 1)) (hi : (kf : Nat) = i) (hn : i < 4) (hs : L.set i (some (.ref x)) = L9) (k1 : LW X (pc + 1) L9 st Mc Mm z cells slots) : LW X pc L (.ref x :: st) Mc Mm z cells slots := by
  subst hs
  obtain ⟨p, l, e, s, m, below, meth, c, b, D, dA, mi⟩ := X
  intro H locs ls hl hW hS
  exact lv_astore_n hF.1 hF.2.1 hd hi hl.has hn rfl (fun ls9 hl9 => k1 H locs ls9 (hl.put rfl hl9) hW hS)
theorem l_iinc (hF : LF X n xs) {i : Nat} {k : Int} {x v : Int32} {L9 : List (Option Value)} (hd : decode code pc = .ok (.iinc i k, 3)) (hL : L[i]? = some (some (.int x))) (hv : x + Int32.ofInt k = v) (hn : i < 4) (hs : L.set i (some (.int v)) = L9) (k1 : LW X (pc + 3) L9 st Mc Mm z cells slots) : LW X pc L st Mc Mm z cells slots := by
  subst hs
  obtain ⟨p, l, e, s, m, below, meth, c, b, D, dA, mi⟩ := X
  intro H locs ls hl hW hS
  obtain ⟨j, hj⟩ := List.getElem?_of_mem (mem_as (q := (i, .int x)).mpr hL)
  exact lv_iinc hF.1 hF.2.1 hd hl.has (k := j) hj hv hn rfl (fun ls9 hl9 => k1 H locs ls9 (hl.put rfl hl9) hW hS)
theorem l_goto (hF : LF X n xs) {off : Int} (tgt : Nat) (hd : decode code pc = .ok (.goto off, 3)) (ht : (pc : Int) + off = (tgt : Int)) (k1 : LW X tgt L st Mc Mm z cells slots) : LW X pc L st Mc Mm z cells slots := by
  obtain ⟨p, l, e, s, m, below, meth, c, b, D, dA, mi⟩ := X
  intro H locs ls hl hW hS
  exact lv_goto hF.1 hF.2.1 hd ht (k1 H locs ls hl hW hS)
theorem l_same (hF : LF X n xs) {x : Int32} {off : Int} (tgt : Nat) (hd : decode code pc = .ok (.if_icmp .eq off, 3)) (ht : (pc : Int) + off = (tgt : Int)) (k1 : LW X tgt L st Mc Mm z cells slots) : LW X pc L (.int x :: .int x :: st) Mc Mm z cells slots := by
  obtain ⟨p, l, e, s, m, below, meth, c, b, D, dA, mi⟩ := X
  intro H locs ls hl hW hS
  exact lv_icmp_eq hF.1 hF.2.1 hd ht (fun _ => k1 H locs ls hl hW hS) (fun q => absurd rfl q)
theorem l_gt (hF : LF X n xs) {x y : Int32} {off : Int} (tgt : Nat) (hd : decode code pc = .ok (.if_icmp .gt off, 3)) (ht : (pc : Int) + off = (tgt : Int)) (ka : y < x → LW X tgt L st Mc Mm z cells slots) (kb : ¬ y < x → LW X (pc + 3) L st Mc Mm z cells slots) : LW X pc L (.int y :: .int x :: st) Mc Mm z cells slots := by
  obtain ⟨p, l, e, s, m, below, meth, c, b, D, dA, mi⟩ := X
  intro H locs ls hl hW hS
  exact lv_icmp_gt hF.1 hF.2.1 hd ht (fun q => ka q H locs ls hl hW hS) (fun q => kb q H locs ls hl hW hS)
theorem l_case (hF : LF X n xs) {x : Int32} (v : Int32) {dflt lo9 hi : Int} {offs : Array Int} {len : Nat} {off : Int} (tgt : Nat) (hd : decode code pc = .ok (.tableswitch dflt lo9 hi offs, len)) (hv : ¬ v.toInt < lo9 ∧ ¬ hi < v.toInt) (ho : offs[(v.toInt - lo9).toNat]? = some off) (ht : (pc : Int) + off = (tgt : Int))
    (ka : LW X tgt L st Mc Mm z cells slots) (kb : ¬ x = v → LW X pc L (.int x :: st) Mc Mm z cells slots) : LW X pc L (.int x :: st) Mc Mm z cells slots := by
  by_cases q : x = v
  · subst q
    obtain ⟨p, l, e, s, m, below, meth, c, b, D, dA, mi⟩ := X
    intro H locs ls hl hW hS
    exact lv_tableIn hF.1 hF.2.1 hd hv.1 hv.2 ho ht (ka H locs ls hl hW hS)
  · exact kb q
theorem l_dflt (hF : LF X n xs) {x : Int32} {dflt lo9 hi : Int} {offs : Array Int} {len : Nat} (tgt : Nat) (hd : decode code pc = .ok (.tableswitch dflt lo9 hi offs, len)) (hv : x.toInt < lo9 ∨ hi < x.toInt) (ht : (pc : Int) + dflt = (tgt : Int)) (ka : LW X tgt L st Mc Mm z cells slots) : LW X pc L (.int x :: st) Mc Mm z cells slots := by
  obtain ⟨p, l, e, s, m, below, meth, c, b, D, dA, mi⟩ := X
  intro H locs ls hl hW hS
  exact lv_tableOut hF.1 hF.2.1 hd hv ht (ka H locs ls hl hW hS)
def bOf (X : LCx) : Nat := X.2.2.2.2.2.2.2.2.1
theorem l_sld (hF : LF X n xs) {i : Int32} (hin : vp_in i n) (hd : decode code pc = .ok (.iaload, 1)) (k1 : LW X (pc + 1) L (.int (xs i.toNatClampNeg) :: st) Mc Mm z cells slots) : LW X pc L (.int i :: .ref (bOf X) :: st) Mc Mm z cells slots := by
  obtain ⟨p, l, e, s, m, below, meth, c, b, D, dA, mi⟩ := X
  intro H locs ls hl hW hS
  obtain ⟨hx, hb, hml, hown, hts, hr, hlk, hK, hX, hbl⟩ := hF
  exact va_sld hx hb hX hbl (Nat.not_le.mpr hbl) hS hin hd (k1 H locs ls hl hW hS)
theorem l_slen (hF : LF X n xs) (hd : decode code pc = .ok (.arraylength, 1)) (k1 : LW X (pc + 1) L (.int (Int32.ofNat n) :: st) Mc Mm z cells slots) : LW X pc L (.ref (bOf X) :: st) Mc Mm z cells slots := by
  obtain ⟨p, l, e, s, m, below, meth, c, b, D, dA, mi⟩ := X
  intro H locs ls hl hW hS
  obtain ⟨hx, hb, hml, hown, hts, hr, hlk, hK, hX, hbl⟩ := hF
  exact va_slen hx hb hX hbl (Nat.not_le.mpr hbl) hS hd (k1 H locs ls hl hW hS)
theorem l_ret (hF : LF X n xs) (hd : decode code pc = .ok (.ireturn, 1)) (h1 : cells ≤ 837981) (h2 : slots ≤ 6588305) : LW X pc L [.int 1] Mc Mm z cells slots := by
  obtain ⟨p, l, e, s, m, below, meth, c, b, D, dA, mi⟩ := X
  intro H locs ls hl hW hS
  obtain ⟨hx, hb, hml, hown, hts, hr, hlk, hK, hX, hbl⟩ := hF
  exact va_forget hS.2.2 (W.widen h1 h2 (lw_ret hx hb hr hlk hd))
theorem l_new {ci N idx : Nat} {C : String} {T : u_T} {fs : List Value} (hF : LF X n xs) (hd : decode code pc = .ok (.new idx, 3)) (hc : cl_[ci]? = some (C, T, N)) (hin : ∀ w ∈ u_ws C T N, w ∈ lw_all) (ty : Nat → FieldType) (hty : ∀ k, k < N → parseFieldDescriptor (T k).2.2.1 = some (ty k)) (hcl : Cond.classLink R_law idx C ∈ lw_all) (hinst : Cond.instantiable C N ∈ lw_all) (hini : Cond.initialized C ∈ lw_all) (hfs : ∀ j, j < N → defaultValue (ty j) = vp_V fs j) (h1 : cells + 1 ≤ 837981) (h2 : slots + N ≤ 6588305)
    (k1 : LW X (pc + 3) L (.ref z :: st) (va_up Mc z (some (.inr (ci, fs)))) Mm (z + 1) (cells + 1) (slots + N)) : LW X pc L st Mc Mm z cells slots := by
  obtain ⟨p, l, e, s, m, below, meth, c, b, D, dA, mi⟩ := X
  intro H locs ls hl hW hS
  obtain ⟨hx, hb, hml, hown, hts, hr, hlk, hK, hX, hbl⟩ := hF
  have hKn := hK.1.1 ci _ hc
  refine W.newcK hx hb hown (hts _ hcl) (hts _ hinst) (hts _ hini) rfl hd h1 h2 hKn.2.1 rfl fun H1 kC hkC e1 z1 o1 => ?_
  have hz := hW.1.1
  have hat : va_at D cl_ (z, en dA (.inr (ci, fs))) H1 := ⟨_, hc, (u_born ty hts hin hKn hkC (by rw [hz] at e1; exact e1) hty).to hfs⟩
  have hW2 : W2 s D dA (va_up Mc z (some (.inr (ci, fs)))) Mm (z + 1) H1 := by
    refine ⟨hW.1.push (by rw [z1]) hat o1, ⟨by rw [z1, hz], fun a e' ha => ⟨(hW.2.1.cell ha).kept (o1 a (by have := hW.2.1.lt ha; omega)), (hW.2.1.2.1 a e' ha).2⟩, fun q hq => hW.2.1.2.2 q (by omega)⟩, fun a ha => ?_⟩
    by_cases haz : a = z
    · cases hm : Mm a with
      | none => rfl
      | some e' => have := hW.2.1.lt hm; omega
    · rw [va_up_n _ _ haz] at ha
      exact hW.2.2 a ha
  have := k1 H1 locs ls hl hW2 (hS.grow (by rw [z1]) o1)
  rw [hz]
  exact this
/-- a call on the first world: the second's cells are not its own -/
theorem l_back {p : Program} {l : Launch} {e : Env} {s : State} {m : MethodId} {below : List Frame} {meth : Method} {c : Code} {b : Nat} {D : va_G} {dA : Nat → Nat} {mi : Nat} {H : Heap} {locs : List Loc} {dc ds : Nat} {ls : Array Slot} {st0 : List Value} {v1 : Option Value} {M1 : Mp} {a' : Array Value}
    (hr : va_Run p l e room_1 s m #[Value.ref b] below meth c H locs cells slots dc ds (F0 m pc ls st0) st (QR (fun q => Mc q ≠ none ∨ z ≤ q) D dA v1 M1 (z + dc) a') (fun q => Mc q ≠ none ∨ z ≤ q))
    (k1 : LW (p, l, e, s, m, below, meth, c, b, D, dA, mi) (pc + 3) L (v1.toList ++ st) M1 Mm (z + dc) (cells + dc) (slots + ds)) (hl : lo ls 4 L) (hW : W2 s D dA Mc Mm z H) (hS : va_S (fun q => s.heap.size ≤ q) s.heap H locs) :
    W p l e room_1 s m #[Value.ref b] below meth c H locs cells slots (lw_Z below #[Value.ref b] s) (F0 m pc ls st0) := by
  intro T hT X
  obtain ⟨v, st₀, t, T', L', h0, X', hL, g1, g2, ⟨hv, hWd, hFr⟩, go⟩ := hr T hT X
  cases hv
  have hz : H.size ≤ T'.heap.size := by rw [g1, ← h0]; exact hFr.1
  have hA : ∀ q, (Mc q ≠ none ∨ z ≤ q) → s.heap.size ≤ q := by
    intro q hq
    rcases hq with hq | hq
    · cases hm : Mc q with
      | none => exact absurd hm hq
      | some e' => exact (hW.1.2.1 q e' hm).2
    · exact hW.1.2.2 q hq
  have hkeep : ∀ a e', Mm a = some e' → T'.heap[a]? = H[a]? := by
    intro a e' ha
    have hlt := hW.2.1.lt ha
    rw [g1, hFr.2 a (by rw [h0, hW.1.1]; exact hlt) (fun q => by
      rcases q with q | q
      · rw [hW.2.2 a q] at ha; cases ha
      · omega), h0]
  have hsz : z ≤ z + dc := Nat.le_add_right _ _
  have hTs : T'.heap.size = z + dc := by rw [g1]; exact hWd.1
  obtain ⟨t2, a1, b1⟩ := k1 T'.heap (locs ++ L') ls hl
    ⟨⟨hTs, fun a e' ha => by rw [g1]; exact ⟨(hWd.2.1 a e' ha).1, hA a (hWd.2.1 a e' ha).2⟩, fun q hq => hW.1.2.2 q (by omega)⟩,
     ⟨hTs, fun a e' ha => ⟨(hW.2.1.cell ha).kept (hkeep a e' ha), (hW.2.1.2.1 a e' ha).2⟩, fun q hq => hW.1.2.2 q (by omega)⟩, fun a ha => by
      cases hm : M1 a with
      | none => exact absurd hm ha
      | some e' =>
        rcases (hWd.2.1 a e' hm).2 with q | q
        · exact hW.2.2 a q
        · cases hmm : Mm a with
          | none => rfl
          | some e2 => have := hW.2.1.lt hmm; omega⟩
    ⟨Nat.le_trans hS.1 hz, fun q q1 q2 => (by rw [g1, hFr.2 q (by rw [h0]; exact Nat.lt_of_lt_of_le q1 hS.1) (fun z9 => q2 (hA q z9)), h0] : T'.heap[q]? = H[q]?).trans (hS.2.1 q q1 q2), fun q hq => by
      rcases List.mem_append.mp hq with h | h
      · exact hS.2.2 q h
      · exact hA _ (hL q h)⟩ T' rfl X'
  exact ⟨t2, go t2 a1, b1⟩
end LAWROWS
