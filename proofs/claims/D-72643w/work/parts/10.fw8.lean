set_option maxRecDepth 100000
/-- n + 1 numbers under n: two are the same -/
theorem pigeon : ∀ (n : Nat) (f : Nat → Nat), (∀ i, i ≤ n → f i < n) → ∃ i j, i < j ∧ j ≤ n ∧ f i = f j
  | 0, f, h => absurd (h 0 (Nat.le_refl _)) (Nat.not_lt_zero _)
  | n + 1, f, h => by
    by_cases hx : ∃ i, i ≤ n ∧ f i = f (n + 1)
    · obtain ⟨i, hi, he⟩ := hx
      exact ⟨i, n + 1, by omega, Nat.le_refl _, he⟩
    · have hne : ∀ i, i ≤ n → f i ≠ f (n + 1) := fun i hi he => hx ⟨i, hi, he⟩
      obtain ⟨i, j, h1, h2, h3⟩ := pigeon n (fun i => if f i < f (n + 1) then f i else f i - 1) (by
        intro i hi
        have a := h i (by omega)
        have b := h (n + 1) (Nat.le_refl _)
        have c := hne i hi
        show (if f i < f (n + 1) then f i else f i - 1) < n
        split <;> omega)
      refine ⟨i, j, h1, by omega, ?_⟩
      have c1 := hne i (by omega)
      have c2 := hne j h2
      split at h3 <;> split at h3 <;> omega
/-- a class's i-th superclass -/
def anc (vm : Vm) : Nat → ClassId → Option ClassId
  | 0, c => some c
  | i + 1, c => (vm.classes[c]?.bind (·.super)).bind (anc vm i)
theorem anc_back (vm : Vm) : ∀ (i : Nat) (c : ClassId), anc vm (i + 1) c = (anc vm i c).bind fun x => vm.classes[x]?.bind (·.super)
  | 0, c => by simp [anc]
  | i + 1, c => by
    rw [anc]
    cases hs : vm.classes[c]?.bind (·.super) with
    | none => simp [anc, hs]
    | some q =>
      rw [Option.bind_some, anc_back vm i q]
      simp [anc, hs]
theorem lk_own (vm : Vm) (name desc : String) : ∀ (n : Nat) (c : ClassId), lookupInSuperclasses vm name desc n c = none → ∀ i, i < n → ∀ x, anc vm i c = some x → ownMethod vm name desc x = none
  | 0, _, _, i, hi, _, _ => absurd hi (Nat.not_lt_zero _)
  | n + 1, c, h, i, hi, x, hx => by
    unfold lookupInSuperclasses at h
    cases hk : vm.classes[c]? with
    | none =>
      cases i with
      | zero => cases hx; simp [ownMethod, hk]
      | succ i => simp [anc, hk] at hx
    | some k =>
      simp only [hk, Option.bind_eq_bind, Option.bind_some] at h
      cases hf : k.findMethod name desc with
      | some j => simp [hf] at h
      | none =>
        simp only [hf] at h
        cases i with
        | zero => cases hx; simp [ownMethod, hk, hf]
        | succ i =>
          cases hs : k.super with
          | none => simp [anc, hk, hs] at hx
          | some q =>
            simp only [hs, Option.bind_some] at h
            exact lk_own vm name desc n q h i (by omega) x (by simpa [anc, hk, hs] using hx)
theorem sup_anc (vm : Vm) : ∀ (n : Nat) (c p : ClassId), p ∈ vm.superclassesAux n c → ∃ j, 1 ≤ j ∧ j ≤ n ∧ anc vm j c = some p
  | 0, c, p, h => by simp [Vm.superclassesAux] at h
  | n + 1, c, p, h => by
    unfold Vm.superclassesAux at h
    cases hs : vm.classes[c]?.bind (·.super) with
    | none => simp [hs] at h
    | some q =>
      simp only [hs] at h
      rcases List.mem_cons.mp h with rfl | h
      · exact ⟨1, by omega, by omega, by simp [anc, hs]⟩
      · obtain ⟨j, h1, h2, h3⟩ := sup_anc vm n q p h
        exact ⟨j + 1, by omega, by omega, by simp [anc, hs, h3]⟩
theorem anc_some (vm : Vm) (c : ClassId) {j : Nat} {p : ClassId} (h : anc vm j c = some p) : ∀ i, i ≤ j → ∃ x, anc vm i c = some x := by
  induction j generalizing p with
  | zero => intro i hi; rw [show i = 0 by omega]; exact ⟨p, h⟩
  | succ j ih =>
    intro i hi
    rcases Nat.lt_or_ge i (j + 1) with hl | hl
    · rw [anc_back] at h
      obtain ⟨x, hx, -⟩ := Option.bind_eq_some_iff.mp h
      exact ih hx i (by omega)
    · rw [show i = j + 1 by omega]; exact ⟨p, h⟩
theorem lk_none {vm : Vm} {name desc : String} {c : ClassId} (h : lookupInSuperclasses vm name desc (vm.classes.size + 1) c = none) : ∀ p ∈ vm.superclasses c, ownMethod vm name desc p = none := by
  intro p hp
  obtain ⟨j, h1, h2, h3⟩ := sup_anc vm _ c p hp
  have hown := lk_own vm name desc _ c h
  rcases Nat.lt_or_ge j (vm.classes.size + 1) with hl | hl
  · exact hown j hl p h3
  · have hj : j = vm.classes.size + 1 := by omega
    subst hj
    cases ho : ownMethod vm name desc p with
    | none => rfl
    | some m0 =>
      exfalso
      have hall := anc_some vm c h3
      have hx : ∀ i, ∃ x, i ≤ vm.classes.size + 1 → anc vm i c = some x := fun i => by
        by_cases hi : i ≤ vm.classes.size + 1
        · obtain ⟨x, hx⟩ := hall i hi
          exact ⟨x, fun _ => hx⟩
        · exact ⟨0, fun h => absurd h hi⟩
      let f : Nat → Nat := fun i => Classical.choose (hx i)
      have hf : ∀ i, i ≤ vm.classes.size + 1 → anc vm i c = some (f i) := fun i => Classical.choose_spec (hx i)
      have hlt : ∀ i, i ≤ vm.classes.size → f i < vm.classes.size := by
        intro i hi
        have e := hf (i + 1) (by omega)
        rw [anc_back, hf i (by omega), Option.bind_some] at e
        obtain ⟨k, hk, -⟩ := Option.bind_eq_some_iff.mp e
        exact (Array.getElem?_eq_some_iff.mp hk).1
      obtain ⟨i, j, a1, a2, a3⟩ := pigeon vm.classes.size f hlt
      have per : ∀ k, anc vm (i + (j - i) + k) c = anc vm (i + k) c := by
        intro k
        induction k with
        | zero => rw [show i + (j - i) + 0 = j by omega, show i + 0 = i by omega, hf j (by omega), hf i (by omega), a3]
        | succ k ih => rw [show i + (j - i) + (k + 1) = (i + (j - i) + k) + 1 by omega, show i + (k + 1) = (i + k) + 1 by omega, anc_back, anc_back, ih]
      have e := per (vm.classes.size + 1 - j)
      rw [show i + (j - i) + (vm.classes.size + 1 - j) = vm.classes.size + 1 by omega, h3] at e
      have := hown (i + (vm.classes.size + 1 - j)) (by omega) p e.symm
      rw [ho] at this
      cases this
theorem lk_spec {vm : Vm} {c : ClassId} {k mk : Class} {name desc : String} {m : MethodId} {rm : Method} (hk : vm.classes[c]? = some k) (hni : k.isInterface = false) (hup : vm.lookupUp c name desc = some m) (hm : vm.method? m = some rm) (hst : rm.isStatic = false) (hnm : rm.name = name) (hds : rm.desc = desc) (hpv : rm.isPrivate = false) (hmk : vm.classes[m.cls]? = some mk) (hitf : mk.isInterface = true) (hsel : selectMethod {} vm c m = .method m) : lookupSpecial vm c name desc = .method m := by
  cases hl : lookupInSuperclasses vm name desc (vm.classes.size + 1) c with
  | some m' =>
    have : m' = m := by
      unfold Vm.lookupUp at hup
      rw [hl] at hup
      exact Option.some.inj hup
    subst this
    exact lookupSpecial_of_superclasses hk hni hl hm hst
  | none =>
    have hown : k.findMethod name desc = none := by
      have h := hl
      unfold lookupInSuperclasses at h
      simp only [hk, Option.bind_eq_bind, Option.bind_some] at h
      cases hf : k.findMethod name desc with
      | none => rfl
      | some j => simp [hf] at h
    have habove : superclassMethods vm c name desc = [] := by
      unfold superclassMethods
      rw [List.filterMap_eq_nil_iff]
      intro p hp
      exact lk_none hl p hp
    have hins : selectInSuperclasses vm m name desc (vm.classes.size + 1) c = none := by
      have key : ∀ (n : Nat) (q : ClassId), lookupInSuperclasses vm name desc n q = none → selectInSuperclasses vm m name desc n q = none := by
        intro n
        induction n with
        | zero => intro q _; rfl
        | succ n ih =>
          intro q hq
          unfold lookupInSuperclasses at hq
          unfold selectInSuperclasses
          cases hkq : vm.classes[q]? with
          | none => simp
          | some kq =>
            simp only [hkq, Option.bind_eq_bind, Option.bind_some] at hq
            cases hf : kq.findMethod name desc with
            | some j => simp [hf] at hq
            | none =>
              simp only [hf] at hq
              cases hs : kq.super with
              | none => simp [hf, hs]
              | some w =>
                simp only [hs, Option.bind_some] at hq
                simp [hf, hs, ih w hq]
      exact key _ _ hl
    have hfil : (maximallySpecific vm c name desc).filter (fun m => (vm.method? m).any (!·.isAbstract)) = [m] := by
      unfold selectMethod at hsel
      rw [hm] at hsel
      simp only [hpv, Bool.false_eq_true, if_false, hnm, hds, hmk, Option.any_some, hitf, Bool.not_true, Bool.and_false, hins] at hsel
      split at hsel
      · cases hsel
      · split at hsel
        · rename_i m' hm'
          cases hsel
          exact hm'
        · cases hsel
        · cases hsel
    unfold lookupSpecial
    simp only [hk, Option.bind_some, hown, Option.map_none, habove, List.filter_nil, Option.toList_none, List.append_nil, List.find?_nil, hfil]
section DU
variable {p : Program} {l : Launch} {e : Env} {R : Room} {s : State} {m : MethodId} {args : Array Value} {below : List Frame} {meth : Method} {c : Code} {T : State} {locs : List Loc} {cells slots : Nat}
theorem du_step (X : Stand p l e R s m args below meth c T locs cells slots) (hexec : p.tables.exec = Jvm.exec) {own owner : String} {index : Nat} {x : MethodName} (hown : s.vm.findClass own = some m.cls) (hlink : (Cond.methodLink own index x).before args s = true) (hsame : (Cond.sameMethod x.cls owner x.name x.desc).before args s = true)
    {r0 : MethodId} {r : Method} (hn : s.methodNamed? ⟨owner, x.name, x.desc⟩ = some r0) (hrm : s.vm.method? r0 = some r) (hstatic : r.isStatic = false) (habs : r.isAbstract = false) (hnoinit : x.name ≠ "<init>") {dk mk : Class} {cn : ClassId} (hd : s.vm.classes[m.cls]? = some dk) (hnid : dk.isInterface = false) (hcn : s.vm.findClass x.cls = some cn) (hsuper : dk.super = some cn)
    (hpv : r.isPrivate = false) (hmk : s.vm.classes[r0.cls]? = some mk) (hitf : mk.isInterface = true) (hsel : selectMethod {} s.vm cn r0 = .method r0)
    {a : Addr} {cell : Cell} {kcell : Class} (hcell : T.heap[a]? = some cell) (hobj : ∀ c, cell.vm ≠ .statics c) (hkcell : s.vm.classes[cell.cls]? = some kcell)
    {g : JFrame} (hg : g.method = m) {argsL rest : List Value} (hlen : argsL.length = r.sig.parameters.length) (hstack : g.stack = argsL.reverse ++ .ref a :: rest) (hdg : decode c.code g.pc = .ok (.invokespecial index, 3)) :
    ∃ vm', Stand p l e R s m args below meth c (T.setVm vm') locs cells slots ∧ ∀ target, Steps p.tables e below (doInvoke e ((T.setVm vm').setTop { g with stack := rest }) [] r0 (.ref a :: argsL).toArray).1 target → Steps p.tables e below (T.setTop g) target := by
  have hpl : e.platform.magicAccessors = ({} : Platform).magicAccessors := by rw [X.admits.platform]
  obtain ⟨cn', ck, r1, hcn', hck, hni, hf, hn1⟩ := Cond.sameMethod_found hsame
  cases hn.symm.trans hn1
  cases hcn.symm.trans hcn'
  obtain ⟨ci, hl, hright⟩ := Cond.methodLink_specUp hown hcn hck hni hf hlink e.platform hpl (by rw [X.admits.platform])
  obtain ⟨kr, hkr, -⟩ := className_of_methodNamed hn
  obtain ⟨hrn, hrd⟩ := name_of_methodNamed hn hrm
  obtain ⟨dk₀, cfile, nt, _, _, ck₀, _, _, hd₀, hcf, hcp, -, -, -, hc₀, -, hpoly, -⟩ := hl.here
  cases hd.symm.trans hd₀
  cases hck.symm.trans hc₀
  have hup : s.vm.lookupUp cn x.name x.desc = some r0 := ((State.methodFound?_class hcn hck hni hpoly r0).mp hf).1
  have hfound0 : lookupSpecial s.vm cn x.name x.desc = .method r0 := lk_spec hck hni hup hrm hstatic hrn hrd hpv hmk hitf hsel
  subst hg
  obtain ⟨vm', hW', st⟩ := Steps.invokeSuperColdArgs (tb := p.tables) (e := e) (s₀ := s) (U := T) (f := g) (args := argsL) (rest := rest) (a := a) (cell := cell) (m := r0) X.here hexec hdg X.warmed hl hright hd hcf hcp hrm hck
    (by rw [hrn]; simp [hnoinit]) hstatic (by rw [hrn, hrd, hsuper]; simpa using hfound0) hnid hkr habs hlen hstack hcell hobj hkcell
  exact ⟨vm', X.noted hW', st⟩
end DU
section CALLU
variable {G : Cx} {F : Option Value × Mp × Nat} {nL pc z fr lc : Nat} {ρ α : Type} {enc : ρ → Option Value} {enc1 : α → Option Value} {L : List (Option Value)} {st : List Value} {M : Mp} {cc bytes : ByteArray} {nm : String} {ret rt : Option FieldType} {maxL fr1 lc1 idx n : Nat} {As : List Value} {f : Mp → Nat → Rs α} {kf : α → Mp → Nat → Rs ρ} {stf : α → List Value}
/-- super.hasColumn(..) in Head: Area's default -/
theorem s_callU {ro : Option Nat} {na de : String} (hF : FX G cc nL RX3 ret nm fr lc) (hM : MTd ⟨"StoryColumns$Area", na, de⟩ bytes maxL rt fr1 lc1 enc1 (va_rf ro :: As) f) (hcode : Cond.code ⟨"StoryColumns$Area", na, de⟩ bytes maxL rt ∈ lw_all) (hin : Cond.instanceMethod ⟨"StoryColumns$Area", na, de⟩ ∈ lw_all) (hsup : Cond.superclass "StoryColumns$Head" "StoryColumns$Block" ∈ lw_all) (hno : na ≠ "<init>")
    (hl1 : Cond.methodLink "StoryColumns$Head" idx ⟨"StoryColumns$Block", na, de⟩ ∈ NW) (hsm : Cond.sameMethod "StoryColumns$Block" "StoryColumns$Area" na de ∈ NW) (hld : ∀ (D : va_G) (dA : Nat → Nat) (mi : Nat) (s : State), Kx D dA mi s → LDs "StoryColumns$Block" ⟨"StoryColumns$Area", na, de⟩ s)
    (hlen : (parseMethodDescriptor de).map (fun d => d.parameters.length) = some As.length) (hR : fr1 + 1 ≤ fr ∧ 8 + (maxL + 11) + lc1 ≤ lc) (hst : okst st ∧ st.length ≤ 8) (hd : decode cc pc = .ok (.invokespecial idx, 3)) {st0 : List Value} (hs0 : st0 = As.reverse ++ va_rf ro :: st) (hs : ∀ r, (enc1 r).toList ++ st = stf r)
    (k1 : ∀ r M' z', SK G F nL enc (pc + 3) L (stf r) M' z' (kf r M' z')) : SK G F nL enc pc L st0 M z (if ckc M ro [3] = true then cb (f M z) z kf else none) := by
  refine SK.chk fun hc => ?_
  intro r9 dc ds hk he
  obtain ⟨r1, M1, dc1, ds1, dc2, ds2, hx1, hk2, e1, e2⟩ := cb_some hk
  have kk := k1 r1 M1 (z + dc1) r9 dc2 ds2 hk2 he
  rw [← hs r1] at kk
  obtain ⟨⟨p, l, e, R, s, m, args, below, meth, c0⟩, A, D, dA, mi⟩ := G
  obtain ⟨hx, hb, hml, hown, hts, hr, hlk, hK, hnm, hfr, hlc⟩ := hF
  intro H locs cells slots ls hl hW hS h1 h2 h3
  obtain ⟨a, c, fs, rfl, hcc, hm⟩ := ckc_some hc
  have hc3 : c = 3 := by simpa using hcc
  subst hc3
  obtain ⟨c1, m1, rm, mk, g1, g2, g3, g4, g5, g6, g8, g7⟩ := hld D dA mi s hK
  obtain ⟨cellB, hcB, hoB, hclB⟩ := hW.recv hK hm (q := (RX3, TX3, 14)) rfl
  obtain ⟨kB, hkB, hkBo⟩ := (hK.1.1 3 (RX3, TX3, 14) rfl).2.2
  have hcls : cellB.cls = (D.1 3) := Option.some.inj (hclB.symm.trans (hK.1.1 3 (RX3, TX3, 14) rfl).2.1)
  obtain ⟨cn, dk, kp, hps, hdk, hkp, hsuper, -, -, hnid⟩ := Cond.superclass_spec hown (hts _ hsup)
  cases hps.symm.trans g1
  obtain ⟨mI, methI, hnI, hmI, hstI, habI⟩ := Cond.instanceMethod_spec (hts _ hin)
  cases hnI.symm.trans g2
  cases hmI.symm.trans g3
  have hBk : Back l R p e below s args ⟨"StoryColumns$Area", na, de⟩ 3 8 (PreOf R dc1 ds1 (PcX D dA mi A M z (va_rf (some a) :: As))) (PostOf (QR A D dA (enc1 r1) M1 (z + dc1)) dc1 ds1 A) := bk_def hM hx1 hx (Nat.le_trans hR.1 hfr) (Nat.le_trans hR.2 hlc) hcode (words_ride hts)
  have hsig : As.length = rm.sig.parameters.length := by
    obtain ⟨_, _, q1, -, -, -, -, -, -, hsigM⟩ := Cond.code_spec hnI (hts _ hcode)
    cases hmI.symm.trans q1
    rw [hsigM] at hlen
    exact (Option.some.inj hlen).symm
  refine sm_back (len := 3) (st0 := st0) (st := st) (a' := (Value.ref a :: As).toArray) ?_ kk hl hS h1 h2 h3 e1 e2
  intro T hT X
  obtain ⟨vm₁, X₁, hstep₁⟩ := du_step X hx hown (va_Nw.use rfl (hK.2.1 _ hl1)) (va_Nw.use rfl (hK.2.1 _ hsm)) hnI hmI hstI habI hno hdk hnid hps hsuper g8 g5 g6 g4 (a := a) (cell := cellB) (by rw [hT]; exact hcB) (fun z h => by rw [h] at hoB; cases hoB) (by rw [hcls]; exact hkB)
    (g := F0 m pc ls st0) rfl (argsL := As) (rest := st) hsig hs0 (by rw [hb]; exact hd)
  obtain ⟨v, ⟨U', l2, c2, s2⟩, X', ⟨g', mk', t, L', f1, f2, hq', f3, hL', f4, f5⟩, hsteps⟩ := hBk m meth c0 ⟨T.setVm vm₁, locs, cells, slots⟩ { F0 m pc ls st0 with stack := st } (.invokespecial idx) m1 (Value.ref a :: As).toArray X₁ rfl (by rw [hml]; exact hl.1) (by rw [hb]; exact hd) (hroom hst.1 hst.2) (X₁.named hnI)
    ⟨by show cells + dc1 ≤ R.cells; omega, by show slots + ds1 ≤ R.slots; omega, rfl, hK.warm X₁.warmed, by show Wd A D dA M z T.heap; rw [hT]; exact hW⟩
  dsimp only [Pt.U, Pt.locs, Pt.cells, Pt.slots] at X' f1 f2 hq' f3 f4 f5 hsteps
  subst f3; subst f4; subst f5
  exact ⟨v, (T.setVm vm₁).calling g' mk' (Value.ref a :: As).toArray, t, U', L', hT, X', hL', f1, f2, hq', fun target h => hstep₁ _ (hsteps.trans h)⟩
end CALLU
section DE
variable {Q : Unit → Pre} {E : CtlPost} {e : Env} {d : Bool} {acts : List Action} {s : State} {f : JFrame}
theorem de_wp {index ci a nt : Nat} {m : MethodId} {ck nk : Class} {cfl : ClassFile} {r : Method} {args rest : List Value} {cell : Cell} {kcell : Class}
    (hs : s.topJava?.isSome) (hr : s.vm.methodReady f.method.cls index m) (hrm : s.vm.method? m = some r) (hck : s.vm.classes[f.method.cls]? = some ck) (hcf : ck.cf = some cfl) (hc : cfl.constantPool[index]? = some (.interfaceMethodref ci nt)) (hnamed : s.vm.classReady f.method.cls ci m.cls) (hnk : s.vm.classes[m.cls]? = some nk) (hnif : nk.isInterface = true)
    (hinit : (r.name == "<init>" && m.cls != m.cls) = false) (hstatic : r.isStatic = false) (hfound : lookupSpecial s.vm m.cls r.name r.desc = .method m) (hiface : ck.isInterface = false) (habs : r.isAbstract = false)
    (hlen : args.length = r.sig.parameters.length) (hstack : f.stack = args.reverse ++ .ref a :: rest) (hcell : s.heap[a]? = some cell) (hobj : ∀ c, cell.vm ≠ .statics c) (hkcell : s.vm.classes[cell.cls]? = some kcell) :
    wp (invokespecial.sem index) Q E e d acts (s.setTop f) ↔ E (.invoke m (.ref a :: args).toArray) acts (s.setTop { f with stack := rest }) := by
  have hfound' : lookupSpecial s.vm (if r.name != "<init>" && !nk.isInterface && (m.cls != f.method.cls && s.vm.isSubclass f.method.cls m.cls) then ck.super.getD m.cls else m.cls) r.name r.desc = .method m := by
    rw [hnif]; simpa using hfound
  simp only [invokespecial.sem, wp_bind', W.resolveMethodAt_ready (State.method?_setTop f hs) hr]
  simp only [W.theMethod, State.vm_setTop, hrm, Option.some.injEq, exists_eq_left', Jvm.refClassAt, Jvm.constantAt, wp_bind', W.currentClass, W.theClass, State.method?_setTop f hs, hck, hcf, Option.bind_some, hc, wp_pure', W.resolveClassAt_ready (State.method?_setTop f hs) hnamed]
  simp only [W.ite, hinit, hstatic, Bool.false_eq_true, if_false, wp_bind', W.theClass, State.vm_setTop, hck, hnk, Option.some.injEq, exists_eq_left', W.look, hfound', bne_self_eq_false, wp_pure', Jvm.popArgs, ← hlen, popN_top hs hstack]
  simp [hs, hcell, hobj, hkcell, hck, hiface, hrm, habs, hnk, hfound, hnif, popN_top hs hstack]
end DE
