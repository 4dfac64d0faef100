set_option maxRecDepth 100000
/-! ===== calls that land in a default method ===== -/
section DV
variable {Q : Unit → Pre} {E : CtlPost} {e : Env} {d : Bool} {acts : List Action} {s : State} {f : JFrame}
theorem dv_sel {Q : Selection → Pre} {c : ClassId} {m : MethodId} {rm : Method} {mk : Class} (hsel : selectMethod e.platform s.vm c m = .method m) (hm : s.vm.method? m = some rm) (hmk : s.vm.classes[m.cls]? = some mk) (hitf : mk.isInterface = true) (hnear : NearOk_ s.vm c rm.name rm.desc m) : wp (invokeinterface.selectVirtual c m) Q E e d acts s ↔ Q (.method m) d acts s := by
  cases hp : e.platform.privateHidesDefault
  · simp [invokeinterface.selectVirtual, hm, selectFor_method hsel hm, hmk, hitf, hp]
  · cases hn : nearestHeld s.vm c rm.name rm.desc with
    | none => simp [invokeinterface.selectVirtual, hm, selectFor_method hsel hm, hmk, hitf, hp, hn]
    | some kh =>
      obtain ⟨k, hd⟩ := kh
      cases hd with
      | nothing => simp [invokeinterface.selectVirtual, hm, selectFor_method hsel hm, hmk, hitf, hp, hn]
      | default d' =>
        have := hnear.1 k d' hn
        subst this
        simp [invokeinterface.selectVirtual, hm, selectFor_method hsel hm, hmk, hitf, hp, hn]
      | thrower b => exact absurd hn (hnear.2 k b)
theorem dv_wp {index a : Nat} {m : MethodId} {c' : ClassId} {k k' mk : Class} {rm : Method} {args rest : List Value} {cell : Cell}
    (hs : s.topJava?.isSome) (hnamed : namesResolved s.vm f.method.cls index c') (hk' : s.vm.classes[c']? = some k') (hclass : k'.isInterface = false) (hr : s.vm.methodReady f.method.cls index m)
    (hk : s.vm.classes[m.cls]? = some k) (hrm : s.vm.method? m = some rm) (hpoly : signaturePolymorphic k rm = false) (hstatic : rm.isStatic = false) (hlen : args.length = rm.sig.parameters.length) (hstack : f.stack = args.reverse ++ .ref a :: rest)
    (hcell : s.heap[a]? = some cell) (hobj : ∀ c, cell.vm ≠ .statics c) (hsel : selectMethod e.platform s.vm cell.cls m = .method m) (habs : rm.isAbstract = false) (hmk : s.vm.classes[m.cls]? = some mk) (hitf : mk.isInterface = true) (hnear : NearOk_ s.vm cell.cls rm.name rm.desc m) :
    wp (invokevirtual.sem index) Q E e d acts (s.setTop f) ↔ E (.invoke m (.ref a :: args).toArray) acts (s.setTop { f with stack := rest }) := by
  obtain ⟨kc, cfl, ci, n, h1, h2, h3, h4⟩ := hnamed
  have hpre : ∀ {Q' : ClassId → Pre}, wp (Jvm.refClassAt index) Q' E e d acts (s.setTop f) ↔ Q' c' d acts (s.setTop f) := by
    intro Q'
    rcases h3 with h3 | h3 <;>
      simp [Jvm.refClassAt, Jvm.constantAt, State.method?_setTop f hs, h1, h2, h3, W.resolveClassAt_ready (State.method?_setTop f hs) h4]
  simp only [invokevirtual.sem, wp_bind', hpre, W.theClass, State.vm_setTop, hk', Option.some.injEq, exists_eq_left', W.ite, hclass, Bool.false_eq_true, if_false, wp_pure', W.resolveMethodAt_ready (State.method?_setTop f hs) hr]
  simp only [W.theMethod, State.vm_setTop, hrm, Option.some.injEq, exists_eq_left', Seam.isPolymorphic, wp_bind', W.theClass, hk, wp_pure', hpoly, W.ite, Bool.false_eq_true, if_false, hstatic, Jvm.popArgs, ← hlen, popN_top hs hstack]
  simp [hs, hcell, hobj, dv_sel (s := s.setTop _) (show selectMethod e.platform (s.setTop _).vm cell.cls m = .method m from hsel) hrm hmk hitf hnear, hrm, habs]
end DV
section DVS
variable {p : Program} {l : Launch} {e : Env} {R : Room} {s : State} {m : MethodId} {args : Array Value} {below : List Frame} {meth : Method} {c : Code} {T : State} {locs : List Loc} {cells slots : Nat}
theorem dv_step (X : Stand p l e R s m args below meth c T locs cells slots) (hexec : p.tables.exec = Jvm.exec) {own owner : String} {index : Nat} {x : MethodName} (hown : s.vm.findClass own = some m.cls) (hlink : (Cond.methodLink own index x).before args s = true)
    (hsame : (Cond.sameMethod x.cls owner x.name x.desc).before args s = true) (howner : owner ≠ "java/lang/invoke/MethodHandle" ∧ owner ≠ "java/lang/invoke/VarHandle")
    {r0 : MethodId} {r : Method} (hn : s.methodNamed? ⟨owner, x.name, x.desc⟩ = some r0) (hrm : s.vm.method? r0 = some r) (hstatic : r.isStatic = false) (habs : r.isAbstract = false)
    {a : Addr} {cell : Cell} (hcell : T.heap[a]? = some cell) (hobj : ∀ c, cell.vm ≠ .statics c) {mk : Class} (hsel : selectMethod e.platform s.vm cell.cls r0 = .method r0) (hmk : s.vm.classes[r0.cls]? = some mk) (hitf : mk.isInterface = true) (hnear : NearOk_ s.vm cell.cls r.name r.desc r0)
    {g : JFrame} (hg : g.method = m) {argsL rest : List Value} (hlen : argsL.length = r.sig.parameters.length) (hstack : g.stack = argsL.reverse ++ .ref a :: rest) (hdg : decode c.code g.pc = .ok (.invokevirtual index, 3)) :
    ∃ vm', Stand p l e R s m args below meth c (T.setVm vm') locs cells slots ∧ ∀ target, (∀ acts, Steps p.tables e below (doInvoke e ((T.setVm vm').setTop { g with stack := rest }) acts r0 (.ref a :: argsL).toArray).1 target) → Steps p.tables e below (T.setTop g) target := by
  have hpl : e.platform.magicAccessors = ({} : Platform).magicAccessors := by rw [X.admits.platform]
  obtain ⟨cn, ck, r1, hcn, hck, hni, hf, hn1⟩ := Cond.sameMethod_found hsame
  cases hn.symm.trans hn1
  obtain ⟨ci, hl, hright⟩ := Cond.methodLink_specUp hown hcn hck hni hf hlink e.platform hpl (by rw [X.admits.platform])
  have hE : s.MethodEntryUp e T.vm m.cls index cn r0 ci := State.methodEntryUp X.warmed hl hright
  obtain ⟨kr, hkr, hnr⟩ := className_of_methodNamed hn
  obtain ⟨dk, cfile, nt, _, _, _, _, _, hd, hcf, hcp, -⟩ := hl.here
  have alike := hE.warmed.alike
  obtain ⟨dk₂, hdk₂, hres⟩ := hE.classReady
  obtain ⟨dk₃, hdk₃, hed⟩ := alike.2.2 _ _ hd
  cases hdk₂.symm.trans hdk₃
  obtain ⟨kr₂, hkr₂, her⟩ := alike.2.2 _ _ hkr
  obtain ⟨ck₂, hck₂, hec⟩ := alike.2.2 _ _ hck
  obtain ⟨mk₂, hmk₂, hem⟩ := alike.2.2 _ _ hmk
  refine ⟨T.vm.calledUp m.cls ci index cn r0, X.noted hE.warmed, fun target hrest => ?_⟩
  subst hg
  have hnear2 : NearOk_ (T.vm.calledUp g.method.cls ci index cn r0) cell.cls r.name r.desc r0 := by unfold NearOk_; rw [al_near alike]; exact hnear
  jvm_step X.here [hexec, hdg, invokevirtual.wp_coldUp (e := e) (s := T) (s₀ := s) (f := g) X.here.top X.warmed hE hd hcf (Or.inl hcp) hck hni,
    dv_wp (e := e) (s := T.setVm (T.vm.calledUp g.method.cls ci index cn r0)) (f := g) (m := r0) (c' := cn) (k := kr₂) (k' := ck₂) (mk := mk₂) (rm := r) (a := a) (args := argsL) (rest := rest) (cell := cell)
      X.here.top ⟨dk₂, cfile, ci, nt, hdk₂, by rw [hed]; exact hcf, Or.inl hcp, dk₂, hdk₂, hres⟩ hck₂ (by rw [hec]; exact hni) hE.ready hkr₂
      (by show (T.vm.calledUp g.method.cls ci index cn r0).method? r0 = some r; rw [alike.method?]; exact hrm)
      (by rw [her]; show signaturePolymorphic kr r = false; simp [signaturePolymorphic, hnr, howner.1, howner.2]) hstatic hlen hstack hcell hobj
      (by show selectMethod e.platform (T.vm.calledUp g.method.cls ci index cn r0) cell.cls r0 = .method r0; rw [alike.selectMethod]; exact hsel) habs hmk₂ (by rw [hem]; exact hitf) hnear2]
  exact hrest
end DVS
section CALLD
variable {G : Cx} {F : Option Value × Mp × Nat} {nL pc z fr lc : Nat} {ρ α : Type} {enc : ρ → Option Value} {enc1 : α → Option Value} {L : List (Option Value)} {st : List Value} {M : Mp} {cc bytes : ByteArray} {own nm : String} {ret rt : Option FieldType} {maxL fr1 lc1 idx n : Nat} {As : List Value} {f : Mp → Nat → Rs α} {kf : α → Mp → Nat → Rs ρ} {stf : α → List Value}
theorem words_ride {args : Array Value} {s : State} (hts : ∀ w ∈ lw_all, w.before args s = true) : ∀ w ∈ lw_all, ∀ (a' : Array Value) (U : State), s.WarmedH U.vm → w.before a' U = true := fun w hw a' U hW => word_at hW (good_of_word (List.mem_filter.mp hw).2) (hts w hw)
theorem s_callD {ro : Option Nat} {na de : String} (hF : FX G cc nL own ret nm fr lc) (hM : MTd ⟨"StoryColumns$Area", na, de⟩ bytes maxL rt fr1 lc1 enc1 (va_rf ro :: As) f) (hcode : Cond.code ⟨"StoryColumns$Area", na, de⟩ bytes maxL rt ∈ lw_all) (hin : Cond.instanceMethod ⟨"StoryColumns$Area", na, de⟩ ∈ lw_all)
    (hl1 : Cond.methodLink own idx ⟨"StoryColumns$Block", na, de⟩ ∈ NW) (hsm : Cond.sameMethod "StoryColumns$Block" "StoryColumns$Area" na de ∈ NW) (hld : ∀ (D : va_G) (dA : Nat → Nat) (mi : Nat) (s : State), Kx D dA mi s → LDs "StoryColumns$Block" ⟨"StoryColumns$Area", na, de⟩ s ∧ LDs "StoryColumns$Head" ⟨"StoryColumns$Area", na, de⟩ s)
    (hlen : (parseMethodDescriptor de).map (fun d => d.parameters.length) = some As.length) (hR : fr1 + 1 ≤ fr ∧ 8 + (maxL + 11) + lc1 ≤ lc) (hst : okst st ∧ st.length ≤ 8) (hd : decode cc pc = .ok (.invokevirtual idx, 3)) {st0 : List Value} (hs0 : st0 = As.reverse ++ va_rf ro :: st) (hs : ∀ r, (enc1 r).toList ++ st = stf r)
    (k1 : ∀ r M' z', SK G F nL enc (pc + 3) L (stf r) M' z' (kf r M' z')) : SK G F nL enc pc L st0 M z (if ckc M ro [2, 3] = true then cb (f M z) z kf else none) := by
  refine SK.chk fun hc => ?_
  intro r9 dc ds hk he
  obtain ⟨r1, M1, dc1, ds1, dc2, ds2, hx1, hk2, e1, e2⟩ := cb_some hk
  have kk := k1 r1 M1 (z + dc1) r9 dc2 ds2 hk2 he
  rw [← hs r1] at kk
  obtain ⟨⟨p, l, e, R, s, m, args, below, meth, c0⟩, A, D, dA, mi⟩ := G
  obtain ⟨hx, hb, hml, hown, hts, hr, hlk, hK, hnm, hfr, hlc⟩ := hF
  intro H locs cells slots ls hl hW hS h1 h2 h3
  obtain ⟨a, c, fs, rfl, hcc, hm⟩ := ckc_some hc
  obtain ⟨ldB, ldH⟩ := hld D dA mi s hK
  have hdef : ∃ q : vw_C, cl_[c]? = some q ∧ LDs q.1 ⟨"StoryColumns$Area", na, de⟩ s := by
    rcases List.mem_cons.mp hcc with rfl | hcc
    · exact ⟨(RX2, TX2, 13), rfl, ldB⟩
    · rcases List.mem_cons.mp hcc with rfl | hcc
      · exact ⟨(RX3, TX3, 14), rfl, ldH⟩
      · cases hcc
  obtain ⟨q, hq, c1, m1, rm, mk, g1, g2, g3, g4, g5, g6, g8, g7⟩ := hdef
  obtain ⟨cellB, hcB, hoB, hclB⟩ := hW.recv hK hm hq
  cases hclB.symm.trans g1
  obtain ⟨mI, methI, hnI, hmI, hstI, habI⟩ := Cond.instanceMethod_spec (hts _ hin)
  cases hnI.symm.trans g2
  cases hmI.symm.trans g3
  have hBk : Back l R p e below s args ⟨"StoryColumns$Area", na, de⟩ 3 8 (PreOf R dc1 ds1 (PcX D dA mi A M z (va_rf (some a) :: As))) (PostOf (QR A D dA (enc1 r1) M1 (z + dc1)) dc1 ds1 A) := bk_def hM hx1 hx (Nat.le_trans hR.1 hfr) (Nat.le_trans hR.2 hlc) hcode (words_ride hts)
  have hsig : As.length = rm.sig.parameters.length := by
    obtain ⟨_, _, q1, -, -, -, -, -, -, hsigM⟩ := Cond.code_spec hnI (hts _ hcode)
    cases hmI.symm.trans q1
    rw [hsigM] at hlen
    exact (Option.some.inj hlen).symm
  refine sm_back (len := 3) (st0 := st0) (st := st) (a' := (Value.ref a :: As).toArray) ?_ kk hl hS h1 h2 h3 e1 e2
  intro T hT X
  obtain ⟨vm₁, X₁, hstep₁⟩ := dv_step X hx hown (va_Nw.use rfl (hK.2.1 _ hl1)) (va_Nw.use rfl (hK.2.1 _ hsm)) ⟨by decide, by decide⟩ hnI hmI hstI habI (a := a) (cell := cellB) (by rw [hT]; exact hcB) (fun z h => by rw [h] at hoB; cases hoB)
    (by rw [Launch.admits_selectMethod X.admits]; exact g4) g5 g6 g7 (g := F0 m pc ls st0) rfl (argsL := As) (rest := st) hsig hs0 (by rw [hb]; exact hd)
  obtain ⟨v, ⟨U', l2, c2, s2⟩, X', ⟨g', mk', t, L', f1, f2, hq', f3, hL', f4, f5⟩, hsteps⟩ := hBk m meth c0 ⟨T.setVm vm₁, locs, cells, slots⟩ { F0 m pc ls st0 with stack := st } (.invokevirtual idx) m1 (Value.ref a :: As).toArray X₁ rfl (by rw [hml]; exact hl.1) (by rw [hb]; exact hd) (hroom hst.1 hst.2) (X₁.named hnI)
    ⟨by show cells + dc1 ≤ R.cells; omega, by show slots + ds1 ≤ R.slots; omega, rfl, hK.warm X₁.warmed, by show Wd A D dA M z T.heap; rw [hT]; exact hW⟩
  dsimp only [Pt.U, Pt.locs, Pt.cells, Pt.slots] at X' f1 f2 hq' f3 f4 f5 hsteps
  subst f3; subst f4; subst f5
  exact ⟨v, (T.setVm vm₁).calling g' mk' (Value.ref a :: As).toArray, t, U', L', hT, X', hL', f1, f2, hq', fun target h => hstep₁ _ fun acts => by rw [doInvoke_state]; exact hsteps.trans h⟩
end CALLD
