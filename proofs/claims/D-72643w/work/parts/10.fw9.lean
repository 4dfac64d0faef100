set_option maxRecDepth 100000
section DES
variable {p : Program} {l : Launch} {e : Env} {R : Room} {s : State} {m : MethodId} {args : Array Value} {below : List Frame} {meth : Method} {c : Code} {T : State} {locs : List Loc} {cells slots : Nat}
theorem de_step (X : Stand p l e R s m args below meth c T locs cells slots) (hexec : p.tables.exec = Jvm.exec) {own : String} {index : Nat} {x : MethodName} (hown : s.vm.findClass own = some m.cls) (hlink : (Cond.methodLink own index x).before args s = true)
    {r0 : MethodId} {r : Method} (hn : s.methodNamed? x = some r0) (hrm : s.vm.method? r0 = some r) (hstatic : r.isStatic = false) (habs : r.isAbstract = false) {ki : Class} (hki : s.vm.classes[r0.cls]? = some ki) (hii : ki.isInterface = true)
    (hx : x.cls ≠ "java/lang/invoke/MethodHandle" ∧ x.cls ≠ "java/lang/invoke/VarHandle") {dk0 : Class} (hd0 : s.vm.classes[m.cls]? = some dk0) (hnid : dk0.isInterface = false)
    {a : Addr} {cell : Cell} {kcell : Class} (hcell : T.heap[a]? = some cell) (hobj : ∀ c, cell.vm ≠ .statics c) (hkcell : s.vm.classes[cell.cls]? = some kcell)
    {g : JFrame} (hg : g.method = m) {argsL rest : List Value} (hlen : argsL.length = r.sig.parameters.length) (hstack : g.stack = argsL.reverse ++ .ref a :: rest) (hdg : decode c.code g.pc = .ok (.invokespecial index, 3)) :
    ∃ vm', Stand p l e R s m args below meth c (T.setVm vm') locs cells slots ∧ ∀ target, (∀ acts, Steps p.tables e below (doInvoke e ((T.setVm vm').setTop { g with stack := rest }) acts r0 (.ref a :: argsL).toArray).1 target) → Steps p.tables e below (T.setTop g) target := by
  have hpl : e.platform.magicAccessors = ({} : Platform).magicAccessors := by rw [X.admits.platform]
  obtain ⟨ci, hl, hright⟩ := Cond.methodLink_spec hown hn hlink e.platform hpl
  obtain ⟨kx, hkx, hnx⟩ := className_of_methodNamed hn
  obtain ⟨hrn, hrd⟩ := name_of_methodNamed hn hrm
  have hE : s.MethodEntry e T.vm m.cls index r0 ci := State.methodEntry X.warmed hl hright fun k hk => by
    cases hkx.symm.trans hk
    rw [hnx]; exact hx
  obtain ⟨dk, cfile, nt, _, _, via, ck, _, hd, hcf, hcp, -, -, -, hck, hvia, -⟩ := hl.here
  cases hck.symm.trans hki
  cases hd.symm.trans hd0
  have hv : via = true := hvia.symm.trans hii
  subst hv
  have hcp' : cfile.constantPool[index]? = some (.interfaceMethodref ci nt) := by simpa using hcp
  have hdecl : ki.findMethod x.name x.desc = some r0.idx := by
    have hc := findClass_of_methodNamed hn
    have h' := hn
    simp only [State.methodNamed?, hc, hck, Option.bind_eq_bind, Option.bind_some, Option.bind_eq_some_iff, Option.pure_def, Option.some.injEq] at h'
    obtain ⟨i, hi, hmi⟩ := h'
    rw [← hmi]; exact hi
  have hfound : lookupSpecial s.vm r0.cls r.name r.desc = .method r0 := by
    unfold lookupSpecial
    rw [hrn, hrd]
    simp only [hck, Option.bind_some, hdecl, Option.map_some, Option.toList_some]
    have e0 : (⟨r0.cls, r0.idx⟩ : MethodId) = r0 := rfl
    rw [e0]
    simp [hrm, hstatic]
  have alike := hE.warmed.alike
  obtain ⟨dk₂, hdk₂, hres⟩ := hE.classReady
  obtain ⟨dk₃, hdk₃, hed⟩ := alike.2.2 _ _ hd
  cases hdk₂.symm.trans hdk₃
  obtain ⟨ck₂, hck₂, hec⟩ := alike.2.2 _ _ hck
  obtain ⟨kcell₂, hkcell₂, -⟩ := alike.2.2 _ _ hkcell
  refine ⟨T.vm.called m.cls ci index r0, X.noted hE.warmed, fun target hrest => ?_⟩
  subst hg
  jvm_step X.here [hexec, hdg, invokespecial.wp_cold (e := e) (s := T) (s₀ := s) (f := g) X.here.top hE hd hcf (Or.inr hcp') hrm,
    de_wp (e := e) (s := T.setVm (T.vm.called g.method.cls ci index r0)) (f := g) (m := r0) (r := r) (args := argsL) (rest := rest) (cell := cell) (kcell := kcell₂) (ck := dk₂) (nk := ck₂) (cfl := cfile) (ci := ci) (nt := nt)
      X.here.top hE.ready (by show (T.vm.called g.method.cls ci index r0).method? r0 = some r; rw [alike.method?]; exact hrm) hdk₂ (by rw [hed]; exact hcf) hcp' ⟨dk₂, hdk₂, hres⟩ hck₂ (by rw [hec]; exact hii) (by simp) hstatic
      (by show lookupSpecial (T.vm.called g.method.cls ci index r0) _ _ _ = _; rw [alike.lookupSpecial]; exact hfound) (by rw [hed]; exact hnid) habs hlen hstack hcell hobj hkcell₂]
  exact hrest
end DES
section CALLE
variable {G : Cx} {F : Option Value × Mp × Nat} {nL pc z fr lc : Nat} {ρ α : Type} {enc : ρ → Option Value} {enc1 : α → Option Value} {L : List (Option Value)} {st : List Value} {M : Mp} {cc bytes : ByteArray} {nm : String} {ret rt : Option FieldType} {maxL fr1 lc1 idx n : Nat} {As : List Value} {f : Mp → Nat → Rs α} {kf : α → Mp → Nat → Rs ρ} {stf : α → List Value}
/-- Numbered.super.number() in Story -/
theorem s_callE {ro : Option Nat} {na de : String} (hF : FX G cc nL RX5 ret nm fr lc) (hM : MTd ⟨"StoryColumns$Numbered", na, de⟩ bytes maxL rt fr1 lc1 enc1 (va_rf ro :: As) f) (hcode : Cond.code ⟨"StoryColumns$Numbered", na, de⟩ bytes maxL rt ∈ lw_all) (hin : Cond.instanceMethod ⟨"StoryColumns$Numbered", na, de⟩ ∈ lw_all) (hsup : Cond.superclass "StoryColumns$Story" "java/lang/Object" ∈ lw_all)
    (hl1 : Cond.methodLink "StoryColumns$Story" idx ⟨"StoryColumns$Numbered", na, de⟩ ∈ lw_all) (hif : Cond.interfaceMethod "StoryColumns$Numbered" "StoryColumns$Numbered" na de ∈ NW)
    (hlen : (parseMethodDescriptor de).map (fun d => d.parameters.length) = some As.length) (hR : fr1 + 1 ≤ fr ∧ 8 + (maxL + 11) + lc1 ≤ lc) (hst : okst st ∧ st.length ≤ 8) (hd : decode cc pc = .ok (.invokespecial idx, 3)) {st0 : List Value} (hs0 : st0 = As.reverse ++ va_rf ro :: st) (hs : ∀ r, (enc1 r).toList ++ st = stf r)
    (k1 : ∀ r M' z', SK G F nL enc (pc + 3) L (stf r) M' z' (kf r M' z')) : SK G F nL enc pc L st0 M z (if ckc M ro [5] = true then cb (f M z) z kf else none) := by
  refine SK.chk fun hc => ?_
  intro r9 dc ds hk he
  obtain ⟨r1, M1, dc1, ds1, dc2, ds2, hx1, hk2, e1, e2⟩ := cb_some hk
  have kk := k1 r1 M1 (z + dc1) r9 dc2 ds2 hk2 he
  rw [← hs r1] at kk
  obtain ⟨⟨p, l, e, R, s, m, args, below, meth, c0⟩, A, D, dA, mi⟩ := G
  obtain ⟨hx, hb, hml, hown, hts, hr, hlk, hK, hnm, hfr, hlc⟩ := hF
  intro H locs cells slots ls hl hW hS h1 h2 h3
  obtain ⟨a, c, fs, rfl, hcc, hm⟩ := ckc_some hc
  have hc5 : c = 5 := by simpa using hcc
  subst hc5
  obtain ⟨cellB, hcB, hoB, hclB⟩ := hW.recv hK hm (q := (RX5, TX5, 8)) rfl
  obtain ⟨kB, hkB, hkBo⟩ := (hK.1.1 5 (RX5, TX5, 8) rfl).2.2
  have hcls : cellB.cls = (D.1 5) := Option.some.inj (hclB.symm.trans (hK.1.1 5 (RX5, TX5, 8) rfl).2.1)
  obtain ⟨cn, dk, kp, hps, hdk, hkp, hsuper, -, -, hnid⟩ := Cond.superclass_spec hown (hts _ hsup)
  obtain ⟨mI, methI, hnI, hmI, hstI, habI⟩ := Cond.instanceMethod_spec (hts _ hin)
  obtain ⟨cL, kL, r2, hcL, hkL, hiL, hfoundL, hn1⟩ := Cond.interfaceMethod_spec (hK.2.1 _ hif)
  cases hnI.symm.trans hn1
  have hcLm : mI.cls = cL := Option.some.inj ((findClass_of_methodNamed hnI).symm.trans hcL)
  have hBk : Back l R p e below s args ⟨"StoryColumns$Numbered", na, de⟩ 3 8 (PreOf R dc1 ds1 (PcX D dA mi A M z (va_rf (some a) :: As))) (PostOf (QR A D dA (enc1 r1) M1 (z + dc1)) dc1 ds1 A) := bk_def hM hx1 hx (Nat.le_trans hR.1 hfr) (Nat.le_trans hR.2 hlc) hcode (words_ride hts)
  have hsig : As.length = methI.sig.parameters.length := by
    obtain ⟨_, _, q1, -, -, -, -, -, -, hsigM⟩ := Cond.code_spec hnI (hts _ hcode)
    cases hmI.symm.trans q1
    rw [hsigM] at hlen
    exact (Option.some.inj hlen).symm
  refine sm_back (len := 3) (st0 := st0) (st := st) (a' := (Value.ref a :: As).toArray) ?_ kk hl hS h1 h2 h3 e1 e2
  intro T hT X
  obtain ⟨vm₁, X₁, hstep₁⟩ := de_step X hx hown (hts _ hl1) hnI hmI hstI habI (by rw [hcLm]; exact hkL) hiL ⟨by show "StoryColumns$Numbered" ≠ _; decide, by show "StoryColumns$Numbered" ≠ _; decide⟩ hdk hnid (a := a) (cell := cellB) (by rw [hT]; exact hcB) (fun z h => by rw [h] at hoB; cases hoB) (by rw [hcls]; exact hkB)
    (g := F0 m pc ls st0) rfl (argsL := As) (rest := st) hsig hs0 (by rw [hb]; exact hd)
  obtain ⟨v, ⟨U', l2, c2, s2⟩, X', ⟨g', mk', t, L', f1, f2, hq', f3, hL', f4, f5⟩, hsteps⟩ := hBk m meth c0 ⟨T.setVm vm₁, locs, cells, slots⟩ { F0 m pc ls st0 with stack := st } (.invokespecial idx) mI (Value.ref a :: As).toArray X₁ rfl (by rw [hml]; exact hl.1) (by rw [hb]; exact hd) (hroom hst.1 hst.2) (X₁.named hnI)
    ⟨by show cells + dc1 ≤ R.cells; omega, by show slots + ds1 ≤ R.slots; omega, rfl, hK.warm X₁.warmed, by show Wd A D dA M z T.heap; rw [hT]; exact hW⟩
  dsimp only [Pt.U, Pt.locs, Pt.cells, Pt.slots] at X' f1 f2 hq' f3 f4 f5 hsteps
  subst f3; subst f4; subst f5
  exact ⟨v, (T.setVm vm₁).calling g' mk' (Value.ref a :: As).toArray, t, U', L', hT, X', hL', f1, f2, hq', fun target h => hstep₁ _ fun acts => by rw [doInvoke_state]; exact hsteps.trans h⟩
end CALLE
/-! ===== Arrays.copyOf of an Object[] ===== -/
def miOf (G : Cx) : Nat := G.2.2.2.2
def isA2 (M : Mp) (r : Option Nat) : Bool := match r with
  | none => false
  | some a => match M a with
    | some (.inl (2, _, .inr (.inr (.inr (.inr _))))) => true
    | _ => false
theorem isA2_some {M : Mp} {r : Option Nat} (h : isA2 M r = true) : ∃ a n f, r = some a ∧ M a = some (.inl (2, n, .inr (.inr (.inr (.inr f))))) := by
  unfold isA2 at h
  cases r with
  | none => cases h
  | some a =>
    simp only at h
    split at h
    · rename_i n f hm
      exact ⟨a, n, f, rfl, hm⟩
    · cases h
/-- a method's contract where its arguments may name the mirror of Object[] -/
def MTg (G : Cx) (y : MethodName) (bytes : ByteArray) (maxL : Nat) (rt : Option FieldType) (fr lc : Nat) {ρ : Type} (enc : ρ → Option Value) (av : List Value) (f : Mp → Nat → Rs ρ) : Prop := match G with
  | ((_, l, _, _, _, _, _, _, _, _), A, D, dA, mi) => ∀ (M : Mp) (z : Nat) (r : ρ) (M' : Mp) (dc ds : Nat), f M z = some (r, M', dc, ds) → Met l y (ws_ y bytes maxL rt) ({ frames := fr, cells := dc, slots := ds, locals := lc } : Room) (PcX D dA mi A M z av) (QR A D dA (enc r) M' (z + dc)) dc ds A
theorem MTg.of {G0 : Cx} {y : MethodName} {cc : ByteArray} {nL : Nat} {rt : Option FieldType} {fr lc : Nat} {ρ : Type} {enc : ρ → Option Value} {av : Nat → List Value} {f : Mp → Nat → Rs ρ} {L0 : Nat → List (Option Value)} (hy : plainName y.cls = true) (hk : ∀ i, okst (av i)) (hn : ∀ i, (av i).length ≤ nL) (h0 : ∀ i, (av i).map some ++ List.replicate (nL - (av i).length) none = L0 i)
    (h : ∀ (G : Cx) (F : Option Value × Mp × Nat), FX G cc nL y.cls rt y.name fr lc → ∀ (M : Mp) (z : Nat), SK G F nL enc 0 (L0 (miOf G)) [] M z (f M z)) : MTg G0 y cc nL rt fr lc enc (av (miOf G0)) f := by
  obtain ⟨⟨p0, l, e0, R0, s0, m0, args0, below0, meth0, c0⟩, A, D, dA, mi⟩ := G0
  intro M z r M' dc ds hf
  refine Met.ofW (cc := cc) (maxL := nL) (ret := rt) hy rfl ?_
  intro p e s m args below meth c s₁ B hml hv
  obtain ⟨rfl, hK, hW⟩ := hv
  have hts := atoms_spec (ws := ws_ y cc nL rt) B.pre
  have hts : ∀ w ∈ lw_all, w.before _ s = true := fun w h => hts w (List.mem_cons_of_mem _ h)
  have := h ((p, l, e, (headSpec (ws_ y cc nL rt) ({ frames := fr, cells := dc, slots := ds, locals := lc } : Room)).room, s, m, (av mi).toArray, below, meth, c), A, D, dA, mi) (enc r, M', z + dc)
    ⟨B.exec, B.bytes, hml, findClass_of_methodNamed B.named, hts, B.returns, B.notSynchronized, hK, (name_of_methodNamed B.named B.method).1, Nat.le_refl _, Nat.le_refl _⟩ M z r dc ds hf rfl s.heap [] 0 0 _ (lo_entry (hk mi) (hn mi) (h0 mi)) hW va_S.rf (Nat.zero_add _) (Nat.zero_add _) rfl
  rw [show miOf ((p0, l, e0, R0, s0, m0, args0, below0, meth0, c0), A, D, dA, mi) = mi from rfl, lg_entry_eq]
  exact this
section CPY
variable {G : Cx} {F : Option Value × Mp × Nat} {nL pc z fr lc idx : Nat} {ρ α : Type} {enc : ρ → Option Value} {enc1 : α → Option Value} {L : List (Option Value)} {st : List Value} {M : Mp} {k : Rs ρ} {cc bytes : ByteArray} {own nm : String} {ret rt : Option FieldType} {y : MethodName} {maxL fr1 lc1 n : Nat} {As : List Value} {f : Mp → Nat → Rs α} {kf : α → Mp → Nat → Rs ρ} {stf : α → List Value}
theorem s_callSg (hF : FX G cc nL own ret nm fr lc) (hM : MTg G y bytes maxL rt fr1 lc1 enc1 As f) (hw : CWm y bytes maxL rt n) (hl1 : Cond.methodLink own idx y ∈ lw_all) (hin : Cond.static y ∈ lw_all) (hAs : As.length = n) (hR : fr1 + 1 ≤ fr ∧ 8 + (maxL + 11) + lc1 ≤ lc) (hst : okst st ∧ st.length ≤ 8) (hd : decode cc pc = .ok (.invokestatic idx, 3)) {st0 : List Value} (hs0 : st0 = As.reverse ++ st) (hs : ∀ r, (enc1 r).toList ++ st = stf r)
    (k1 : ∀ r M' z', SK G F nL enc (pc + 3) L (stf r) M' z' (kf r M' z')) : SK G F nL enc pc L st0 M z (cb (f M z) z kf) := by
  intro r9 dc ds hk he
  obtain ⟨r1, M1, dc1, ds1, dc2, ds2, hx1, hk2, e1, e2⟩ := cb_some hk
  have kk := k1 r1 M1 (z + dc1) r9 dc2 ds2 hk2 he
  rw [← hs r1] at kk
  obtain ⟨⟨p, l, e, R, s, m, args, below, meth, c0⟩, A, D, dA, mi⟩ := G
  obtain ⟨hx, hb, hml, hown, hts, hr, hlk, hK, hnm, hfr, hlc⟩ := hF
  intro H locs cells slots ls hl hW hS h1 h2 h3
  have hMet := hM M z r1 M1 dc1 ds1 hx1
  have hcB := callB_of (R := R) (own := own) (index := idx) (rm := { frames := fr1, cells := dc1, slots := ds1, locals := lc1 }) (mc := dc1) (ms := ds1) n hts (lw_meth hw.1) rfl rfl rfl (hts _ hw.2.1) (hts _ hl1) hw.2.2 ⟨Nat.le_trans hR.1 hfr, Nat.le_trans hR.2 hlc⟩
  exact sm_back (len := 3) (va_runS (As := As) (rest := st) ⟨hx, hb, hml, hown, hts⟩ hMet ⟨hcB, hts _ hin⟩ ⟨PcX.blind, fun U hU hWm => ⟨rfl, hK.warm hWm, by rw [hU]; exact hW⟩⟩ rfl hAs hl.1 hs0 (hroom hst.1 hst.2) hd ⟨by omega, by omega⟩) kk hl hS h1 h2 h3 e1 e2
theorem s_ldcM (hF : FX G cc nL own ret nm fr lc) (hcl : Cond.classLink own idx "[Ljava/lang/Object;" ∈ lw_all) (hd : decode cc pc = .ok (.ldc idx, 2)) (k1 : SK G F nL enc (pc + 2) L (va_rf (some (miOf G)) :: st) M z k) : SK G F nL enc pc L st M z k := by
  intro r9 dc ds hk he
  have kk := k1 r9 dc ds hk he
  obtain ⟨⟨p, l, e, R, s, m, args, below, meth, c0⟩, A, D, dA, mi⟩ := G
  obtain ⟨hx, hb, hml, hown, hts, hr, hlk, hK, hnm, hfr, hlc⟩ := hF
  intro H locs cells slots ls hl hW hS h1 h2 h3
  exact va_ldcM hx hb hown (hts _ hcl) hK.2.2.1 hd (kk H locs cells slots ls hl hW hS h1 h2 h3)
theorem s_acmp_same {v : Option Nat} {off : Int} {tgt : Nat} (hF : FX G cc nL own ret nm fr lc) (hd : decode cc pc = .ok (.if_acmp .ne off, 3)) (ht : (pc : Int) + off = (tgt : Int)) (k1 : SK G F nL enc (pc + 3) L st M z k) : SK G F nL enc pc L (va_rf v :: va_rf v :: st) M z k := by
  intro r9 dc ds hk he
  have kk := k1 r9 dc ds hk he
  obtain ⟨⟨p, l, e, R, s, m, args, below, meth, c0⟩, A, D, dA, mi⟩ := G
  obtain ⟨hx, hb, hml, hown, hts, hr, hlk, hK, hnm, hfr, hlc⟩ := hF
  intro H locs cells slots ls hl hW hS h1 h2 h3
  exact lv_acmp_ne hx hb hd ht (fun q => absurd rfl q) (fun _ => kk H locs cells slots ls hl hW hS h1 h2 h3)
theorem s_getC {r : Option Nat} (hF : FX G cc nL own ret nm fr lc) (hl1 : Cond.methodLink own idx ⟨"java/lang/Object", "getClass", "()Ljava/lang/Class;"⟩ ∈ lw_all) (hsel : Cond.selects "[Ljava/lang/Object;" ⟨"java/lang/Object", "getClass", "()Ljava/lang/Class;"⟩ ⟨"java/lang/Object", "getClass", "()Ljava/lang/Class;"⟩ ∈ lw_all) (hin : Cond.instanceMethod ⟨"java/lang/Object", "getClass", "()Ljava/lang/Class;"⟩ ∈ lw_all) (hnat : Cond.native ⟨"java/lang/Object", "getClass", "()Ljava/lang/Class;"⟩ ∈ lw_all) (hdc : Cond.declares ⟨"java/lang/Object", "getClass", "()Ljava/lang/Class;"⟩ ∈ NW)
    (hR : 1 ≤ fr ∧ 22 ≤ lc) (hst : okst st ∧ st.length ≤ 8) (hd : decode cc pc = .ok (.invokevirtual idx, 3)) (k1 : SK G F nL enc (pc + 3) L (va_rf (some (miOf G)) :: st) M z k) : SK G F nL enc pc L (va_rf r :: st) M z (if isA2 M r = true then k else none) := by
  refine SK.chk fun hc => ?_
  obtain ⟨a, n9, f9, rfl, hm⟩ := isA2_some hc
  intro r9 dc ds hk he
  have kk := k1 r9 dc ds hk he
  obtain ⟨⟨p, l, e, R, s, m, args, below, meth, c0⟩, A, D, dA, mi⟩ := G
  obtain ⟨hx, hb, hml, hown, hts, hr, hlk, hK, hnm, hfr, hlc⟩ := hF
  intro H locs cells slots ls hl hW hS h1 h2 h3
  have hcell : H[a]? = some (vp_cell (dA 2) (n9, .inr (.inr (.inr (.inr f9))))) := hW.cell hm
  exact va_getC hx hb (by rw [hml]; exact hl.1.symm) hown (hts _ hl1) (va_Nw.use rfl (hK.2.1 _ hdc)) (hts _ hsel) (hts _ hin) (hts _ hnat) hK.2.2.1
    ⟨_, hcell, rfl, va_nmO (hK.1.2 2 (dA 2, .object "java/lang/Object") rfl).2 (by decide)⟩ (Nat.le_trans hR.1 hfr) (by rw [okst_sum st hst.1]; have := hst.2; omega) hd (kk H locs cells slots ls hl hW hS h1 h2 h3)
end CPY
