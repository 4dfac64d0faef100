set_option maxRecDepth 100000
/-! ===== DEFAULT METHODS: the tables say nothing of their interface's initialisation, which no step asks for: the body is walked without it ===== -/
def MTd (y : MethodName) (bytes : ByteArray) (maxL : Nat) (rt : Option FieldType) (fr lc : Nat) {ρ : Type} (enc : ρ → Option Value) (av : List Value) (f : Mp → Nat → Rs ρ) : Prop :=
  plainName y.cls = true ∧ okst av ∧ av.length ≤ maxL ∧ ∀ (G : Cx) (F : Option Value × Mp × Nat), FX G bytes maxL y.cls rt y.name fr lc → ∀ (M : Mp) (z : Nat), SK G F maxL enc 0 (av.map some ++ List.replicate (maxL - av.length) none) [] M z (f M z)
theorem MTd.of {y : MethodName} {cc : ByteArray} {nL : Nat} {rt : Option FieldType} {fr lc : Nat} {ρ : Type} {enc : ρ → Option Value} {av : List Value} {f : Mp → Nat → Rs ρ} {L0 : List (Option Value)} (hy : plainName y.cls = true) (hk : okst av) (hn : av.length ≤ nL) (h0 : av.map some ++ List.replicate (nL - av.length) none = L0)
    (h : ∀ (G : Cx) (F : Option Value × Mp × Nat), FX G cc nL y.cls rt y.name fr lc → ∀ (M : Mp) (z : Nat), SK G F nL enc 0 L0 [] M z (f M z)) : MTd y cc nL rt fr lc enc av f := by
  subst h0
  exact ⟨hy, hk, hn, h⟩
theorem stepsDown {tb : Tables} {e : Env} {mid below : List Frame} {s t : State} (h : Steps tb e (mid ++ below) s t) : Steps tb e below s t := by
  obtain ⟨n, h1, h2⟩ := h
  exact ⟨n, h1, fun k hk => (h2 k hk).weaken⟩
theorem bk_def {l : Launch} {R : Room} {p : Program} {e : Env} {below : List Frame} {s : State} {sargs : Array Value} {y : MethodName} {bytes : ByteArray} {maxL : Nat} {rt : Option FieldType} {fr1 lc1 len : Nat} {ρ : Type} {enc : ρ → Option Value} {av : List Value} {f : Mp → Nat → Rs ρ} (hM : MTd y bytes maxL rt fr1 lc1 enc av f)
    {A : Nat → Prop} {D : va_G} {dA : Nat → Nat} {mi : Nat} {M : Mp} {z : Nat} {r : ρ} {M' : Mp} {dc ds : Nat} (hf : f M z = some (r, M', dc, ds)) (hx : p.tables.exec = Jvm.exec) (hfr : fr1 + 1 ≤ R.frames) (hlc : 8 + (maxL + 11) + lc1 ≤ R.locals)
    (hcode : Cond.code y bytes maxL rt ∈ lw_all) (hws : ∀ w ∈ lw_all, ∀ (a' : Array Value) (U : State), s.WarmedH U.vm → w.before a' U = true) :
    Back l R p e below s sargs y len 8 (PreOf R dc ds (PcX D dA mi A M z av)) (PostOf (QR A D dA (enc r) M' (z + dc)) dc ds A) := by
  obtain ⟨hpl, hav, hnl, hsk⟩ := hM
  intro m meth c A0 g ig mk a X hg hsize hdg hW hn hp
  obtain ⟨U, Ls, c0, s0⟩ := A0
  obtain ⟨hp1, hp2, rfl, hKx, hWd⟩ := hp
  dsimp only [Pt.U, Pt.locs, Pt.cells, Pt.slots] at X hn hp1 hp2 hKx hWd ⊢
  obtain ⟨methY, cY, hmY, hcY, hbY, hlY, hrY, hlkY, -, -⟩ := Cond.code_spec hn (hws _ hcode av.toArray U X.warmed)
  have h : At U g.method c below := by rw [hg]; exact X.here
  let rm : Room := { frames := fr1, cells := dc, slots := ds, locals := lc1 }
  have hroom : (U.calling g mk av.toArray).hasRoom e.platform rm = true := X.room_calling (g := g) (R' := rm) hsize hmY hcY hfr (by rw [hlY]; show _ + lc1 ≤ _; omega) hp1 hp2
  have hfV : (U.calling g mk av.toArray).frames = .invoking mk av.toArray :: (U.setTop g).frames := by rw [State.frames_calling h.top, State.frames_setTop' g h.top]
  have hcodeV : (U.calling g mk av.toArray).code? g.method = some c := by
    have := h.code
    rw [State.code?_eq] at this ⊢
    simpa [State.calling, State.pushFrame, State.setFrames] using this
  have hears : (U.calling g mk av.toArray).hears mk (U.setTop g).frames = true := by
    rw [State.frames_setTop' g h.top]
    simp [State.hears, hcodeV, hdg, Except.toOption]
  have hrun : (U.calling g mk av.toArray).status = .running := h.running
  have hable : (U.calling g mk av.toArray).curStatus? = some .runnable := by simpa [State.calling] using h.runnable
  have halone : (U.calling g mk av.toArray).alone = true := by simpa [State.calling] using h.alone
  have hmV : (U.calling g mk av.toArray).vm.method? mk = some methY := hmY
  have hnV : (U.calling g mk av.toArray).methodNamed? y = some mk := hn
  have hcur := State.cur_lt_of_frames hfV
  generalize hV : U.calling g mk av.toArray = V at hroom hfV hears hrun hable halone hmV hnV hcur
  have hf1 : (V.setFrames (.java (entryFrame mk av.toArray maxL) :: (U.setTop g).frames)).frames = .java (entryFrame mk av.toArray maxL) :: (U.setTop g).frames := State.frames_setFrames _ hcur
  have ht1 := State.topJava?_of_frames hf1
  have hplain : (V.setFrames (.java (entryFrame mk av.toArray maxL) :: (U.setTop g).frames)).plainMethod mk := State.plainMethod.of_named (s := V) (plainFor_of_name hpl) hnV hmV
  have hAt : At (V.setFrames (.java (entryFrame mk av.toArray maxL) :: (U.setTop g).frames)) mk cY (U.setTop g).frames :=
    ⟨by rw [ht1]; rfl, ⟨[], by rw [hf1]; rfl⟩, hrun, by simpa using hable, by simpa using halone, by rw [State.code?_eq]; simp [State.setFrames, hmV, hcY], hplain⟩
  have hfull : e.platform.stackFull (V.setFrames (U.setTop g).frames).me (V.setFrames (U.setTop g).frames).frames cY.maxLocals = false := by
    obtain ⟨-, g1, -, g2⟩ := State.hasRoom_stack hroom
    rw [hfV, List.length_cons] at g1
    rw [State.localsInUse_invoking hfV hmV hcY] at g2
    have hw := stackUse_le_stackWeight (U.setTop g).frames
    rw [State.frames_setFrames _ hcur]
    exact Platform.stackFull_eq_false (by rw [State.stackLimits_setFrames]; omega) (by rw [State.stackLimits_setFrames]; omega)
  have hstep : (stepThread p.tables e V).1 = (V.setFrames (.java (entryFrame mk av.toArray maxL) :: (U.setTop g).frames)).setTop (entryFrame mk av.toArray maxL) := by
    rw [stepThread_invoking hfV, (doInvoke_java (s := V.setFrames (U.setTop g).frames) (e := e) (meth := methY) (code := cY) hmV hcY hlkY hfull).1, State.setTop_self ht1]
    simp only [State.pushFrame, State.frames_setFrames _ hcur, State.setFrames_setFrames, hlY, entryFrame]
  have hstep2 : (stepThread p.tables e V).1 = (doInvoke e (U.setTop g) [] mk av.toArray).1 := by
    have hcur' : (U.setTop g).cur < (U.setTop g).threads.size := by
      rw [← hV] at hcur
      simpa [State.calling, State.pushFrame, State.setFrames] using hcur
    obtain ⟨t0, ht0⟩ : ∃ t, (U.setTop g).threads[(U.setTop g).cur]? = some t := ⟨_, Array.getElem?_eq_getElem hcur'⟩
    rw [stepThread_invoking hfV, doInvoke_state e (U.setTop g) [], ← hV, State.calling, State.pushFrame, State.setFrames_setFrames, State.setFrames_self ht0]
  obtain ⟨tV, htV, -⟩ := State.frames_cons hfV
  have XV : Stand p l e rm V mk av.toArray (U.setTop g).frames methY cY (V.setFrames (.java (entryFrame mk av.toArray maxL) :: (U.setTop g).frames)) [] 0 0 := by
    refine ⟨X.admits, X.cas, X.clock, hfV, hroom, hears, hmV, hcY, hAt, by rw [hf1]; rfl, State.WarmedH.refl V, by rw [State.stackLimits_setFrames], by rw [State.stackBytes_setFrames], ?_⟩
    exact (State.sameButNew.refl V htV).setFrames (.java (entryFrame mk av.toArray maxL) :: (U.setTop g).frames) hcur
  have hvm : V.vm = U.vm := by rw [← hV]; rfl
  have hWU : s.WarmedH V.vm := by rw [hvm]; exact X.warmed
  have hKV : Kx D dA mi V := hKx.same hvm.symm
  have hWdV : Wd A D dA M z V.heap := by rw [← hV]; exact hWd
  have hW1 := hsk ((p, l, e, rm, V, mk, av.toArray, (U.setTop g).frames, methY, cY), A, D, dA, mi) (enc r, M', z + dc)
    ⟨hx, hbY, hlY, findClass_of_methodNamed hnV, fun w hw => hws w hw _ V hWU, hrY, hlkY, hKV, (name_of_methodNamed hnV hmV).1, Nat.le_refl _, Nat.le_refl _⟩ M z r dc ds hf rfl V.heap [] 0 0 _ (lo_entry hav hnl rfl) hWdV va_S.rf (Nat.zero_add _) (Nat.zero_add _) rfl
  rw [← lg_entry_eq] at hW1
  obtain ⟨s₂, hst0, o, hrun2, hend, hqr, L', hfe, hL'⟩ := hW1 (V.setFrames (.java (entryFrame mk av.toArray maxL) :: (U.setTop g).frames)) rfl XV
  obtain ⟨mid, hmid⟩ := h.above
  have hfr2 : (U.setTop g).frames = (.java g :: mid) ++ below := by rw [State.frames_setTop' g h.top, hmid]; rfl
  have hsteps : Steps p.tables e below (doInvoke e (U.setTop g) [] mk av.toArray).1 s₂ := by
    rw [← hstep2, hstep]
    rw [hfr2] at hst0
    rw [hfr2]
    exact stepsDown hst0
  subst hV
  rw [State.frames_setTop' g h.top] at hend
  obtain ⟨⟨v, rfl⟩, hW₂, e2, q2, q3, q4, q5, q6⟩ := id hfe
  have e3 : s₂ = ({ (U.calling g mk av.toArray).setFrames s₂.frames with heap := s₂.heap, slotsUsed := s₂.slotsUsed } : State).setVm s₂.vm := by
    have : s₂ = ({ s₂ with vm := (U.calling g mk av.toArray).vm } : State).setVm s₂.vm := rfl
    rw [e2] at this
    exact this
  obtain ⟨c₂, i₂, len₂, hc₂, hd₂, hf₂⟩ := hend
  have hW' : U.WarmedH s₂.vm := hW₂
  have hcc : c₂ = c := by
    have h1 : s₂.code? g.method = U.code? g.method := by rw [State.code?_eq, State.code?_eq, hW'.alike.method?]
    exact Option.some.inj (hc₂.symm.trans (h1.trans h.code))
  subst hcc
  have hlen : len₂ = len := by rw [hdg] at hd₂; cases hd₂; rfl
  subst hlen
  obtain ⟨g₀, hg0⟩ := Option.isSome_iff_exists.mp h.top
  obtain ⟨r0, hr0⟩ := State.topJava?_eq_some.mp hg0
  have hs₂ : s₂ = (({ U with heap := s₂.heap, slotsUsed := s₂.slotsUsed } : State).setVm s₂.vm).setTop { g with pc := g.pc + len₂, stack := v.toList ++ g.stack } := by
    have hr' : (({ U with heap := s₂.heap, slotsUsed := s₂.slotsUsed } : State).setVm s₂.vm).frames = .java g₀ :: r0 := hr0
    refine e3.trans ?_
    rw [hf₂, State.calling_eq h.top, State.setFrames_setFrames, State.setTop_of_frames _ hr', hr0]
    rfl
  have hsame : U.sameButNew ({ U with heap := s₂.heap, slotsUsed := s₂.slotsUsed } : State) L' dc ds := by
    refine ⟨?_, q2, q3, q4, q5, q6⟩
    obtain ⟨t, ht, -⟩ := State.frames_cons hr0
    show ({ U with heap := s₂.heap, slotsUsed := s₂.slotsUsed } : State) = { U.setFrames U.frames with heap := s₂.heap, slotsUsed := s₂.slotsUsed }
    rw [State.setFrames_self ht]
  subst hg
  refine ⟨v, ⟨(({ U with heap := s₂.heap, slotsUsed := s₂.slotsUsed } : State).setVm s₂.vm), Ls ++ L', c0 + dc, s0 + ds⟩,
    ⟨X.admits, X.cas, X.clock, X.frames, X.room, X.hears, X.method, X.code, (X.here.setHeapUsed s₂.heap s₂.slotsUsed).setVm hW'.alike, X.tail, State.WarmedH.trans X.warmed hW', X.limits, X.bytes, X.same.trans (hsame.setVm s.vm)⟩,
    ⟨g, mk, s₂, L', rfl, rfl, hqr, rfl, hL', rfl, rfl⟩, ?_⟩
  show Steps p.tables e below _ ((({ U with heap := s₂.heap, slotsUsed := s₂.slotsUsed } : State).setVm s₂.vm).setTop { g with pc := g.pc + len₂, stack := v.toList ++ g.stack })
  rw [← hs₂]
  exact hsteps
