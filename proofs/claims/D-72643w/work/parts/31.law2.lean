set_option maxRecDepth 100000
section LAW2
variable {X : LCx} {n : Nat} {xs : Nat → Int32} {pc z cells slots : Nat} {L : List (Option Value)} {st : List Value} {Mc Mm : Mp}
theorem LW.fresh (h : (∀ a, z ≤ a → Mc a = none) → LW X pc L st Mc Mm z cells slots) : LW X pc L st Mc Mm z cells slots := by
  obtain ⟨p, l, e, s, m, below, meth, c, b, D, dA, mi⟩ := X
  intro H locs ls hl hW hS
  refine h (fun a ha => ?_) H locs ls hl hW hS
  cases hm : Mc a with
  | none => rfl
  | some e' => have := hW.1.lt hm; omega
theorem l_callV {α : Type} {enc1 : α → Option Value} {y : MethodName} {bytes : ByteArray} {maxL fr1 lc1 k9 idx a c9 : Nat} {rt : Option FieldType} {As : List Value} {f : Mp → Nat → Rs α} {fs : List Value} {q : vw_C} {r : α} {M1 : Mp} {dc ds : Nat} (hF : LF X n xs) (hM : MT y bytes maxL rt fr1 lc1 enc1 (va_rf (some a) :: As) f) (hw : CWm y bytes maxL rt k9) (hl1 : Cond.methodLink R_law idx y ∈ lw_all) (hin : Cond.instanceMethod y ∈ lw_all) (hm : Mc a = some (.inr (c9, fs))) (hq : cl_[c9]? = some q) (hsel : Cond.selects q.1 y y ∈ lw_all) (hAs : As.length = k9) (hR : fr1 + 1 ≤ 2048 ∧ 8 + (maxL + 11) + lc1 ≤ 84000) (hst : okst st ∧ st.length ≤ 8) (hd : decode code pc = .ok (.invokevirtual idx, 3)) {st0 : List Value} (hs0 : st0 = As.reverse ++ .ref a :: st)
    (hf : f Mc z = some (r, M1, dc, ds)) (h1 : cells + dc ≤ 837981) (h2 : slots + ds ≤ 6588305) (k1 : LW X (pc + 3) L ((enc1 r).toList ++ st) M1 Mm (z + dc) (cells + dc) (slots + ds)) : LW X pc L st0 Mc Mm z cells slots := by
  obtain ⟨p, l, e, s, m, below, meth, c, b, D, dA, mi⟩ := X
  intro H locs ls hl hW hS
  obtain ⟨hx, hb, hml, hown, hts, hr, hlk, hK, hX, hbl⟩ := hF
  have hMet := hM l (fun q => Mc q ≠ none ∨ z ≤ q) D dA mi Mc z r M1 dc ds hf
  have hcB := callB_of (R := room_1) (own := R_law) (index := idx) (rm := { frames := fr1, cells := dc, slots := ds, locals := lc1 }) (mc := dc) (ms := ds) k9 hts (lw_meth hw.1) rfl rfl rfl (hts _ hw.2.1) (hts _ hl1) hw.2.2 hR
  have hWc : Wd (fun q => Mc q ≠ none ∨ z ≤ q) D dA Mc z H := ⟨hW.1.1, fun a e' ha => ⟨(hW.1.2.1 a e' ha).1, Or.inl (by rw [ha]; simp)⟩, fun q hq => Or.inr hq⟩
  exact l_back (va_runV (As := As) (rest := st) (b := a) ⟨hx, hb, hml, hown, hts⟩ hMet ⟨hcB, hts _ hin, hts _ hsel⟩ ⟨PcX.blind, hW.1.recv hK hm hq, fun U hU hWm => ⟨rfl, hK.warm hWm, by rw [hU]; exact hWc⟩⟩ rfl hAs hl.1 hs0 (hroom hst.1 hst.2) hd ⟨h1, h2⟩) k1 hl hW hS
theorem l_callI {α : Type} {enc1 : α → Option Value} {y : MethodName} {bytes : ByteArray} {maxL fr1 lc1 k9 idx a : Nat} {As : List Value} {f : Mp → Nat → Rs α} {r : α} {M1 : Mp} {dc ds : Nat} (hF : LF X n xs) (hM : MT y bytes maxL none fr1 lc1 enc1 (va_rf (some a) :: As) f) (hw : CWm y bytes maxL none k9) (hl1 : Cond.methodLink R_law idx y ∈ lw_all) (hin : Cond.instanceMethod y ∈ lw_all) (hini : y.name = "<init>") (hAs : As.length = k9) (hR : fr1 + 1 ≤ 2048 ∧ 8 + (maxL + 11) + lc1 ≤ 84000) (hst : okst st ∧ st.length ≤ 8) (hd : decode code pc = .ok (.invokespecial idx, 3)) {st0 : List Value} (hs0 : st0 = As.reverse ++ .ref a :: st)
    (hf : f Mc z = some (r, M1, dc, ds)) (h1 : cells + dc ≤ 837981) (h2 : slots + ds ≤ 6588305) (k1 : LW X (pc + 3) L ((enc1 r).toList ++ st) M1 Mm (z + dc) (cells + dc) (slots + ds)) : LW X pc L st0 Mc Mm z cells slots := by
  obtain ⟨p, l, e, s, m, below, meth, c, b, D, dA, mi⟩ := X
  intro H locs ls hl hW hS
  obtain ⟨hx, hb, hml, hown, hts, hr, hlk, hK, hX, hbl⟩ := hF
  have hMet := hM l (fun q => Mc q ≠ none ∨ z ≤ q) D dA mi Mc z r M1 dc ds hf
  have hcB := callB_of (R := room_1) (own := R_law) (index := idx) (rm := { frames := fr1, cells := dc, slots := ds, locals := lc1 }) (mc := dc) (ms := ds) k9 hts (lw_meth hw.1) rfl rfl rfl (hts _ hw.2.1) (hts _ hl1) hw.2.2 hR
  have hWc : Wd (fun q => Mc q ≠ none ∨ z ≤ q) D dA Mc z H := ⟨hW.1.1, fun a e' ha => ⟨(hW.1.2.1 a e' ha).1, Or.inl (by rw [ha]; simp)⟩, fun q hq => Or.inr hq⟩
  exact l_back (va_runI (As := As) (rest := st) (b := a) ⟨hx, hb, hml, hown, hts⟩ hMet ⟨hcB, hini, hts _ hin⟩ ⟨PcX.blind, fun U hU hWm => ⟨rfl, hK.warm hWm, by rw [hU]; exact hWc⟩⟩ rfl hAs hl.1 hs0 (hroom hst.1 hst.2) hd ⟨h1, h2⟩) k1 hl hW hS
end LAW2
theorem cw_X0_block : CWm yX0_block cX0_block 11 (Option.some Jvm.ClassFile.FieldType.int) 6 := ⟨q144, q59, by decide +kernel, by decide +kernel, by decide +kernel⟩
theorem cw_X1_block : CWm yX1_block cX1_block 9 (Option.some Jvm.ClassFile.FieldType.int) 6 := ⟨q1146, q63, by decide +kernel, by decide +kernel, by decide +kernel⟩
theorem cw_X0_words : CWm yX0_words cX0_words 5 (Option.some Jvm.ClassFile.FieldType.int) 2 := ⟨q517, q59, by decide +kernel, by decide +kernel, by decide +kernel⟩
theorem cw_X1_words : CWm yX1_words cX1_words 4 (Option.some Jvm.ClassFile.FieldType.int) 2 := ⟨q1157, q63, by decide +kernel, by decide +kernel, by decide +kernel⟩
theorem cw_X0_line : CWm yX0_line cX0_line 7 (Option.some Jvm.ClassFile.FieldType.int) 5 := ⟨q533, q59, by decide +kernel, by decide +kernel, by decide +kernel⟩
theorem cw_X1_line : CWm yX1_line cX1_line 8 (Option.some Jvm.ClassFile.FieldType.int) 5 := ⟨q1165, q63, by decide +kernel, by decide +kernel, by decide +kernel⟩
theorem cw_X0_back : CWm yX0_back cX0_back 1 (Option.some Jvm.ClassFile.FieldType.int) 0 := ⟨q569, q59, by decide +kernel, by decide +kernel, by decide +kernel⟩
theorem cw_X1_back : CWm yX1_back cX1_back 1 (Option.some Jvm.ClassFile.FieldType.int) 0 := ⟨q1169, q63, by decide +kernel, by decide +kernel, by decide +kernel⟩
theorem cw_X0_erase : CWm yX0_erase cX0_erase 1 (Option.some Jvm.ClassFile.FieldType.int) 0 := ⟨q596, q59, by decide +kernel, by decide +kernel, by decide +kernel⟩
theorem cw_X1_erase : CWm yX1_erase cX1_erase 1 (Option.some Jvm.ClassFile.FieldType.int) 0 := ⟨q1173, q63, by decide +kernel, by decide +kernel, by decide +kernel⟩
theorem cw_X0_clear : CWm yX0_clear cX0_clear 2 (Option.some Jvm.ClassFile.FieldType.int) 0 := ⟨q600, q59, by decide +kernel, by decide +kernel, by decide +kernel⟩
theorem cw_X1_clear : CWm yX1_clear cX1_clear 2 (Option.some Jvm.ClassFile.FieldType.int) 0 := ⟨q1177, q63, by decide +kernel, by decide +kernel, by decide +kernel⟩
theorem cw_X0_turn : CWm yX0_turn cX0_turn 6 (Option.some Jvm.ClassFile.FieldType.int) 0 := ⟨q613, q59, by decide +kernel, by decide +kernel, by decide +kernel⟩
theorem cw_X1_turn : CWm yX1_turn cX1_turn 4 (Option.some Jvm.ClassFile.FieldType.int) 0 := ⟨q1181, q63, by decide +kernel, by decide +kernel, by decide +kernel⟩
theorem cw_X0_ofBlock : CWm yX0_ofBlock cX0_ofBlock 4 (Option.some Jvm.ClassFile.FieldType.int) 2 := ⟨q617, q59, by decide +kernel, by decide +kernel, by decide +kernel⟩
theorem cw_X1_ofBlock : CWm yX1_ofBlock cX1_ofBlock 3 (Option.some Jvm.ClassFile.FieldType.int) 2 := ⟨q1185, q63, by decide +kernel, by decide +kernel, by decide +kernel⟩
theorem cw_X0_ofLine : CWm yX0_ofLine cX0_ofLine 4 (Option.some Jvm.ClassFile.FieldType.int) 2 := ⟨q621, q59, by decide +kernel, by decide +kernel, by decide +kernel⟩
theorem cw_X1_ofLine : CWm yX1_ofLine cX1_ofLine 3 (Option.some Jvm.ClassFile.FieldType.int) 2 := ⟨q1189, q63, by decide +kernel, by decide +kernel, by decide +kernel⟩
theorem cw_X0_at : CWm yX0_at cX0_at 6 (Option.some Jvm.ClassFile.FieldType.int) 3 := ⟨q625, q59, by decide +kernel, by decide +kernel, by decide +kernel⟩
theorem cw_X1_at : CWm yX1_at cX1_at 5 (Option.some Jvm.ClassFile.FieldType.int) 3 := ⟨q1193, q63, by decide +kernel, by decide +kernel, by decide +kernel⟩
theorem cw_X0_reach : CWm yX0_reach cX0_reach 5 (Option.some Jvm.ClassFile.FieldType.int) 2 := ⟨q642, q59, by decide +kernel, by decide +kernel, by decide +kernel⟩
theorem cw_X1_reach : CWm yX1_reach cX1_reach 3 (Option.some Jvm.ClassFile.FieldType.int) 2 := ⟨q1197, q63, by decide +kernel, by decide +kernel, by decide +kernel⟩
theorem cw_X0_under : CWm yX0_under cX0_under 3 (Option.some Jvm.ClassFile.FieldType.int) 1 := ⟨q670, q59, by decide +kernel, by decide +kernel, by decide +kernel⟩
theorem cw_X1_under : CWm yX1_under cX1_under 2 (Option.some Jvm.ClassFile.FieldType.int) 1 := ⟨q1217, q63, by decide +kernel, by decide +kernel, by decide +kernel⟩
theorem cw_X0_story : CWm yX0_story cX0_story 4 (Option.some Jvm.ClassFile.FieldType.int) 1 := ⟨q838, q59, by decide +kernel, by decide +kernel, by decide +kernel⟩
theorem cw_X1_story : CWm yX1_story cX1_story 2 (Option.some Jvm.ClassFile.FieldType.int) 1 := ⟨q1225, q63, by decide +kernel, by decide +kernel, by decide +kernel⟩
theorem cw_X0_takenBy : CWm yX0_takenBy cX0_takenBy 3 (Option.some Jvm.ClassFile.FieldType.int) 1 := ⟨q842, q59, by decide +kernel, by decide +kernel, by decide +kernel⟩
theorem cw_X1_takenBy : CWm yX1_takenBy cX1_takenBy 2 (Option.some Jvm.ClassFile.FieldType.int) 1 := ⟨q1257, q63, by decide +kernel, by decide +kernel, by decide +kernel⟩
theorem cw_X0_ofStory : CWm yX0_ofStory cX0_ofStory 4 (Option.some Jvm.ClassFile.FieldType.int) 2 := ⟨q846, q59, by decide +kernel, by decide +kernel, by decide +kernel⟩
theorem cw_X1_ofStory : CWm yX1_ofStory cX1_ofStory 4 (Option.some Jvm.ClassFile.FieldType.int) 2 := ⟨q1273, q63, by decide +kernel, by decide +kernel, by decide +kernel⟩
theorem cw_X0_text : CWm yX0_text cX0_text 4 (Option.some Jvm.ClassFile.FieldType.int) 2 := ⟨q869, q59, by decide +kernel, by decide +kernel, by decide +kernel⟩
theorem cw_X1_text : CWm yX1_text cX1_text 4 (Option.some Jvm.ClassFile.FieldType.int) 2 := ⟨q1309, q63, by decide +kernel, by decide +kernel, by decide +kernel⟩
theorem cw_X0_mark : CWm yX0_mark cX0_mark 7 (Option.some Jvm.ClassFile.FieldType.int) 4 := ⟨q873, q59, by decide +kernel, by decide +kernel, by decide +kernel⟩
theorem cw_X1_mark : CWm yX1_mark cX1_mark 6 (Option.some Jvm.ClassFile.FieldType.int) 4 := ⟨q1261, q63, by decide +kernel, by decide +kernel, by decide +kernel⟩
theorem cw_X0_unmark : CWm yX0_unmark cX0_unmark 5 (Option.some Jvm.ClassFile.FieldType.int) 2 := ⟨q894, q59, by decide +kernel, by decide +kernel, by decide +kernel⟩
theorem cw_X1_unmark : CWm yX1_unmark cX1_unmark 4 (Option.some Jvm.ClassFile.FieldType.int) 2 := ⟨q1265, q63, by decide +kernel, by decide +kernel, by decide +kernel⟩
theorem cw_X0_ofMark : CWm yX0_ofMark cX0_ofMark 5 (Option.some Jvm.ClassFile.FieldType.int) 3 := ⟨q898, q59, by decide +kernel, by decide +kernel, by decide +kernel⟩
theorem cw_X1_ofMark : CWm yX1_ofMark cX1_ofMark 5 (Option.some Jvm.ClassFile.FieldType.int) 3 := ⟨q1269, q63, by decide +kernel, by decide +kernel, by decide +kernel⟩
theorem cw_X0_ofArticle : CWm yX0_ofArticle cX0_ofArticle 3 (Option.some Jvm.ClassFile.FieldType.int) 2 := ⟨q902, q59, by decide +kernel, by decide +kernel, by decide +kernel⟩
theorem cw_X1_ofArticle : CWm yX1_ofArticle cX1_ofArticle 3 (Option.some Jvm.ClassFile.FieldType.int) 2 := ⟨q1313, q63, by decide +kernel, by decide +kernel, by decide +kernel⟩
theorem cw_X0_read : CWm yX0_read cX0_read 6 (Option.some Jvm.ClassFile.FieldType.int) 2 := ⟨q1015, q59, by decide +kernel, by decide +kernel, by decide +kernel⟩
theorem cw_X1_read : CWm yX1_read cX1_read 7 (Option.some Jvm.ClassFile.FieldType.int) 2 := ⟨q1329, q63, by decide +kernel, by decide +kernel, by decide +kernel⟩
theorem cw_X0_many : CWm yX0_many cX0_many 2 (Option.some Jvm.ClassFile.FieldType.int) 1 := ⟨q1019, q59, by decide +kernel, by decide +kernel, by decide +kernel⟩
theorem cw_X1_many : CWm yX1_many cX1_many 2 (Option.some Jvm.ClassFile.FieldType.int) 1 := ⟨q1333, q63, by decide +kernel, by decide +kernel, by decide +kernel⟩
theorem cw_X0_init : CWm yX0_init cX0_init 1 (Option.none : Option Jvm.ClassFile.FieldType) 0 := ⟨q84, q59, by decide +kernel, by decide +kernel, by decide +kernel⟩
theorem cw_X1_init : CWm yX1_init cX1_init 1 (Option.none : Option Jvm.ClassFile.FieldType) 0 := ⟨q1036, q63, by decide +kernel, by decide +kernel, by decide +kernel⟩
theorem law_gt {n i : Nat} (h : n < i + 7) (hn : n ≤ 448) (hi : i ≤ 500) : Int32.ofNat n - 7 < nI i := by
  have e : (nI n - nI 7).toInt = (n : Int) - 7 := pk_sub_toInt (by omega) (by omega)
  rw [Int32.lt_iff_toInt_lt]
  show (nI n - nI 7).toInt < (nI i).toInt
  rw [e, nI_toInt (by omega)]
  omega
theorem nI_p1 (i : Nat) : nI i + 1 = nI (i + 1) := nI_add i 1
theorem nI_p2 (i : Nat) : nI i + 2 = nI (i + 2) := nI_add i 2
theorem nI_p3 (i : Nat) : nI i + 3 = nI (i + 3) := nI_add i 3
theorem nI_p4 (i : Nat) : nI i + 4 = nI (i + 4) := nI_add i 4
theorem nI_p5 (i : Nat) : nI i + 5 = nI (i + 5) := nI_add i 5
theorem nI_p6 (i : Nat) : nI i + 6 = nI (i + 6) := nI_add i 6
theorem nI_p7 (i : Nat) : nI i + Int32.ofInt 7 = nI (i + 7) := nI_add i 7
set_option maxHeartbeats 4000000 in
theorem law_c0 {X : LCx} {n i h m z cells slots : Nat} {xs : Nat → Int32} {Mc Mm : Mp} {J : Mp → Mp → Prop} (hF : LF X n xs) (hi : i + 7 ≤ n) (hn : n ≤ 448) (hJ : J Mc Mm) (hJh : ∀ Mc Mm, J Mc Mm → (∃ fs, Mc h = some (.inr (0, fs))) ∧ (∃ fs, Mm m = some (.inr (1, fs)))) (op : ∀ (a0 a1 a2 a3 a4 a5 : Int32), OpOk J (fX0_block (some h) a0 a1 a2 a3 a4 a5) (fX1_block (some m) a0 a1 a2 a3 a4 a5))
    (hc : cells + 12000 ≤ 837981) (hs : slots + 90000 ≤ 6588305) (kk : ∀ Mc' Mm' z' c' s', J Mc' Mm' → c' ≤ cells + 12000 → s' ≤ slots + 90000 → LW X 854 [some (.ref (bOf X)), some (.ref h), some (.ref m), some (.int (nI i))] [] Mc' Mm' z' c' s') : LW X 136 [some (.ref (bOf X)), some (.ref h), some (.ref m), some (.int (nI i))] [] Mc Mm z cells slots := by
  refine LW.fresh fun hfr => ?_
  obtain ⟨r, Mc', dc, ds, Mm', h1, hdc, hds, h2, hJ'⟩ := op (xs (nI (i + 1)).toNatClampNeg) (xs (nI (i + 2)).toNatClampNeg) (xs (nI (i + 3)).toNatClampNeg) (xs (nI (i + 4)).toNatClampNeg) (xs (nI (i + 5)).toNatClampNeg) (xs (nI (i + 6)).toNatClampNeg) Mc Mm z hJ hfr
  obtain ⟨⟨fs0, hh⟩, -⟩ := hJh Mc Mm hJ
  obtain ⟨-, ⟨fs1, hmm⟩⟩ := hJh Mc Mm hJ
  refine l_aload (pc := 136) hF dL_law_136 rfl rfl ?_
  refine l_aload (pc := 137) hF dL_law_137 rfl rfl ?_
  refine l_iload (pc := 138) hF dL_law_138 rfl rfl ?_
  refine l_iconst (pc := 139) hF dL_law_139 (1 : Int32) (by decide) ?_
  refine l_iadd (pc := 140) hF dL_law_140 (nI_p1 i) ?_
  refine l_sld (pc := 141) hF (vp_in_nI (show i + 1 < n by omega) (by omega)) dL_law_141 ?_
  refine l_aload (pc := 142) hF dL_law_142 rfl rfl ?_
  refine l_iload (pc := 143) hF dL_law_143 rfl rfl ?_
  refine l_iconst (pc := 144) hF dL_law_144 (2 : Int32) (by decide) ?_
  refine l_iadd (pc := 145) hF dL_law_145 (nI_p2 i) ?_
  refine l_sld (pc := 146) hF (vp_in_nI (show i + 2 < n by omega) (by omega)) dL_law_146 ?_
  refine l_aload (pc := 147) hF dL_law_147 rfl rfl ?_
  refine l_iload (pc := 148) hF dL_law_148 rfl rfl ?_
  refine l_iconst (pc := 149) hF dL_law_149 (3 : Int32) (by decide) ?_
  refine l_iadd (pc := 150) hF dL_law_150 (nI_p3 i) ?_
  refine l_sld (pc := 151) hF (vp_in_nI (show i + 3 < n by omega) (by omega)) dL_law_151 ?_
  refine l_aload (pc := 152) hF dL_law_152 rfl rfl ?_
  refine l_iload (pc := 153) hF dL_law_153 rfl rfl ?_
  refine l_iconst (pc := 154) hF dL_law_154 (4 : Int32) (by decide) ?_
  refine l_iadd (pc := 155) hF dL_law_155 (nI_p4 i) ?_
  refine l_sld (pc := 156) hF (vp_in_nI (show i + 4 < n by omega) (by omega)) dL_law_156 ?_
  refine l_aload (pc := 157) hF dL_law_157 rfl rfl ?_
  refine l_iload (pc := 158) hF dL_law_158 rfl rfl ?_
  refine l_iconst (pc := 159) hF dL_law_159 (5 : Int32) (by decide) ?_
  refine l_iadd (pc := 160) hF dL_law_160 (nI_p5 i) ?_
  refine l_sld (pc := 161) hF (vp_in_nI (show i + 5 < n by omega) (by omega)) dL_law_161 ?_
  refine l_aload (pc := 162) hF dL_law_162 rfl rfl ?_
  refine l_iload (pc := 163) hF dL_law_163 rfl rfl ?_
  refine l_bipush (pc := 164) hF dL_law_164 (6 : Int32) (by decide) ?_
  refine l_iadd (pc := 166) hF dL_law_166 (nI_p6 i) ?_
  refine l_sld (pc := 167) hF (vp_in_nI (show i + 6 < n by omega) (by omega)) dL_law_167 ?_
  refine l_callV (pc := 168) (As := [.int (xs (nI (i + 1)).toNatClampNeg), .int (xs (nI (i + 2)).toNatClampNeg), .int (xs (nI (i + 3)).toNatClampNeg), .int (xs (nI (i + 4)).toNatClampNeg), .int (xs (nI (i + 5)).toNatClampNeg), .int (xs (nI (i + 6)).toNatClampNeg)]) (st := []) hF (mX0_block (some h) (xs (nI (i + 1)).toNatClampNeg) (xs (nI (i + 2)).toNatClampNeg) (xs (nI (i + 3)).toNatClampNeg) (xs (nI (i + 4)).toNatClampNeg) (xs (nI (i + 5)).toNatClampNeg) (xs (nI (i + 6)).toNatClampNeg)) cw_X0_block q141 q142 hh rfl q143 rfl ⟨Nat.le_of_ble_eq_true rfl, Nat.le_of_ble_eq_true rfl⟩ ⟨trivial, Nat.le_of_ble_eq_true rfl⟩ dL_law_168 rfl h1 (by omega) (by omega) ?_
  refine l_aload (pc := 171) hF dL_law_171 rfl rfl ?_
  refine l_aload (pc := 172) hF dL_law_172 rfl rfl ?_
  refine l_iload (pc := 173) hF dL_law_173 rfl rfl ?_
  refine l_iconst (pc := 174) hF dL_law_174 (1 : Int32) (by decide) ?_
  refine l_iadd (pc := 175) hF dL_law_175 (nI_p1 i) ?_
  refine l_sld (pc := 176) hF (vp_in_nI (show i + 1 < n by omega) (by omega)) dL_law_176 ?_
  refine l_aload (pc := 177) hF dL_law_177 rfl rfl ?_
  refine l_iload (pc := 178) hF dL_law_178 rfl rfl ?_
  refine l_iconst (pc := 179) hF dL_law_179 (2 : Int32) (by decide) ?_
  refine l_iadd (pc := 180) hF dL_law_180 (nI_p2 i) ?_
  refine l_sld (pc := 181) hF (vp_in_nI (show i + 2 < n by omega) (by omega)) dL_law_181 ?_
  refine l_aload (pc := 182) hF dL_law_182 rfl rfl ?_
  refine l_iload (pc := 183) hF dL_law_183 rfl rfl ?_
  refine l_iconst (pc := 184) hF dL_law_184 (3 : Int32) (by decide) ?_
  refine l_iadd (pc := 185) hF dL_law_185 (nI_p3 i) ?_
  refine l_sld (pc := 186) hF (vp_in_nI (show i + 3 < n by omega) (by omega)) dL_law_186 ?_
  refine l_aload (pc := 187) hF dL_law_187 rfl rfl ?_
  refine l_iload (pc := 188) hF dL_law_188 rfl rfl ?_
  refine l_iconst (pc := 189) hF dL_law_189 (4 : Int32) (by decide) ?_
  refine l_iadd (pc := 190) hF dL_law_190 (nI_p4 i) ?_
  refine l_sld (pc := 191) hF (vp_in_nI (show i + 4 < n by omega) (by omega)) dL_law_191 ?_
  refine l_aload (pc := 192) hF dL_law_192 rfl rfl ?_
  refine l_iload (pc := 193) hF dL_law_193 rfl rfl ?_
  refine l_iconst (pc := 194) hF dL_law_194 (5 : Int32) (by decide) ?_
  refine l_iadd (pc := 195) hF dL_law_195 (nI_p5 i) ?_
  refine l_sld (pc := 196) hF (vp_in_nI (show i + 5 < n by omega) (by omega)) dL_law_196 ?_
  refine l_aload (pc := 197) hF dL_law_197 rfl rfl ?_
  refine l_iload (pc := 198) hF dL_law_198 rfl rfl ?_
  refine l_bipush (pc := 199) hF dL_law_199 (6 : Int32) (by decide) ?_
  refine l_iadd (pc := 201) hF dL_law_201 (nI_p6 i) ?_
  refine l_sld (pc := 202) hF (vp_in_nI (show i + 6 < n by omega) (by omega)) dL_law_202 ?_
  refine LW.swap ?_
  refine l_callV (pc := 203) (As := [.int (xs (nI (i + 1)).toNatClampNeg), .int (xs (nI (i + 2)).toNatClampNeg), .int (xs (nI (i + 3)).toNatClampNeg), .int (xs (nI (i + 4)).toNatClampNeg), .int (xs (nI (i + 5)).toNatClampNeg), .int (xs (nI (i + 6)).toNatClampNeg)]) (st := [.int r]) hF (mX1_block (some m) (xs (nI (i + 1)).toNatClampNeg) (xs (nI (i + 2)).toNatClampNeg) (xs (nI (i + 3)).toNatClampNeg) (xs (nI (i + 4)).toNatClampNeg) (xs (nI (i + 5)).toNatClampNeg) (xs (nI (i + 6)).toNatClampNeg)) cw_X1_block q1143 q1144 hmm rfl q1145 rfl ⟨Nat.le_of_ble_eq_true rfl, Nat.le_of_ble_eq_true rfl⟩ ⟨⟨rfl, trivial⟩, Nat.le_of_ble_eq_true rfl⟩ dL_law_203 rfl h2 (by omega) (by omega) ?_
  refine LW.swap ?_
  refine l_same (pc := 206) hF 854 dL_law_206 rfl ?_
  exact kk Mc' Mm' _ _ _ hJ' (by omega) (by omega)
set_option maxHeartbeats 4000000 in
theorem law_c1 {X : LCx} {n i h m z cells slots : Nat} {xs : Nat → Int32} {Mc Mm : Mp} {J : Mp → Mp → Prop} (hF : LF X n xs) (hi : i + 7 ≤ n) (hn : n ≤ 448) (hJ : J Mc Mm) (hJh : ∀ Mc Mm, J Mc Mm → (∃ fs, Mc h = some (.inr (0, fs))) ∧ (∃ fs, Mm m = some (.inr (1, fs)))) (op : ∀ (a0 a1 : Int32), OpOk J (fX0_words (some h) a0 a1) (fX1_words (some m) a0 a1))
    (hc : cells + 12000 ≤ 837981) (hs : slots + 90000 ≤ 6588305) (kk : ∀ Mc' Mm' z' c' s', J Mc' Mm' → c' ≤ cells + 12000 → s' ≤ slots + 90000 → LW X 854 [some (.ref (bOf X)), some (.ref h), some (.ref m), some (.int (nI i))] [] Mc' Mm' z' c' s') : LW X 211 [some (.ref (bOf X)), some (.ref h), some (.ref m), some (.int (nI i))] [] Mc Mm z cells slots := by
  refine LW.fresh fun hfr => ?_
  obtain ⟨r, Mc', dc, ds, Mm', h1, hdc, hds, h2, hJ'⟩ := op (xs (nI (i + 1)).toNatClampNeg) (xs (nI (i + 2)).toNatClampNeg) Mc Mm z hJ hfr
  obtain ⟨⟨fs0, hh⟩, -⟩ := hJh Mc Mm hJ
  obtain ⟨-, ⟨fs1, hmm⟩⟩ := hJh Mc Mm hJ
  refine l_aload (pc := 211) hF dL_law_211 rfl rfl ?_
  refine l_aload (pc := 212) hF dL_law_212 rfl rfl ?_
  refine l_iload (pc := 213) hF dL_law_213 rfl rfl ?_
  refine l_iconst (pc := 214) hF dL_law_214 (1 : Int32) (by decide) ?_
  refine l_iadd (pc := 215) hF dL_law_215 (nI_p1 i) ?_
  refine l_sld (pc := 216) hF (vp_in_nI (show i + 1 < n by omega) (by omega)) dL_law_216 ?_
  refine l_aload (pc := 217) hF dL_law_217 rfl rfl ?_
  refine l_iload (pc := 218) hF dL_law_218 rfl rfl ?_
  refine l_iconst (pc := 219) hF dL_law_219 (2 : Int32) (by decide) ?_
  refine l_iadd (pc := 220) hF dL_law_220 (nI_p2 i) ?_
  refine l_sld (pc := 221) hF (vp_in_nI (show i + 2 < n by omega) (by omega)) dL_law_221 ?_
  refine l_callV (pc := 222) (As := [.int (xs (nI (i + 1)).toNatClampNeg), .int (xs (nI (i + 2)).toNatClampNeg)]) (st := []) hF (mX0_words (some h) (xs (nI (i + 1)).toNatClampNeg) (xs (nI (i + 2)).toNatClampNeg)) cw_X0_words q514 q515 hh rfl q516 rfl ⟨Nat.le_of_ble_eq_true rfl, Nat.le_of_ble_eq_true rfl⟩ ⟨trivial, Nat.le_of_ble_eq_true rfl⟩ dL_law_222 rfl h1 (by omega) (by omega) ?_
  refine l_aload (pc := 225) hF dL_law_225 rfl rfl ?_
  refine l_aload (pc := 226) hF dL_law_226 rfl rfl ?_
  refine l_iload (pc := 227) hF dL_law_227 rfl rfl ?_
  refine l_iconst (pc := 228) hF dL_law_228 (1 : Int32) (by decide) ?_
  refine l_iadd (pc := 229) hF dL_law_229 (nI_p1 i) ?_
  refine l_sld (pc := 230) hF (vp_in_nI (show i + 1 < n by omega) (by omega)) dL_law_230 ?_
  refine l_aload (pc := 231) hF dL_law_231 rfl rfl ?_
  refine l_iload (pc := 232) hF dL_law_232 rfl rfl ?_
  refine l_iconst (pc := 233) hF dL_law_233 (2 : Int32) (by decide) ?_
  refine l_iadd (pc := 234) hF dL_law_234 (nI_p2 i) ?_
  refine l_sld (pc := 235) hF (vp_in_nI (show i + 2 < n by omega) (by omega)) dL_law_235 ?_
  refine LW.swap ?_
  refine l_callV (pc := 236) (As := [.int (xs (nI (i + 1)).toNatClampNeg), .int (xs (nI (i + 2)).toNatClampNeg)]) (st := [.int r]) hF (mX1_words (some m) (xs (nI (i + 1)).toNatClampNeg) (xs (nI (i + 2)).toNatClampNeg)) cw_X1_words q1154 q1155 hmm rfl q1156 rfl ⟨Nat.le_of_ble_eq_true rfl, Nat.le_of_ble_eq_true rfl⟩ ⟨⟨rfl, trivial⟩, Nat.le_of_ble_eq_true rfl⟩ dL_law_236 rfl h2 (by omega) (by omega) ?_
  refine LW.swap ?_
  refine l_same (pc := 239) hF 854 dL_law_239 rfl ?_
  exact kk Mc' Mm' _ _ _ hJ' (by omega) (by omega)
set_option maxHeartbeats 4000000 in
theorem law_c2 {X : LCx} {n i h m z cells slots : Nat} {xs : Nat → Int32} {Mc Mm : Mp} {J : Mp → Mp → Prop} (hF : LF X n xs) (hi : i + 7 ≤ n) (hn : n ≤ 448) (hJ : J Mc Mm) (hJh : ∀ Mc Mm, J Mc Mm → (∃ fs, Mc h = some (.inr (0, fs))) ∧ (∃ fs, Mm m = some (.inr (1, fs)))) (op : ∀ (a0 a1 a2 a3 a4 : Int32), OpOk J (fX0_line (some h) a0 a1 a2 a3 a4) (fX1_line (some m) a0 a1 a2 a3 a4))
    (hc : cells + 12000 ≤ 837981) (hs : slots + 90000 ≤ 6588305) (kk : ∀ Mc' Mm' z' c' s', J Mc' Mm' → c' ≤ cells + 12000 → s' ≤ slots + 90000 → LW X 854 [some (.ref (bOf X)), some (.ref h), some (.ref m), some (.int (nI i))] [] Mc' Mm' z' c' s') : LW X 244 [some (.ref (bOf X)), some (.ref h), some (.ref m), some (.int (nI i))] [] Mc Mm z cells slots := by
  refine LW.fresh fun hfr => ?_
  obtain ⟨r, Mc', dc, ds, Mm', h1, hdc, hds, h2, hJ'⟩ := op (xs (nI (i + 1)).toNatClampNeg) (xs (nI (i + 2)).toNatClampNeg) (xs (nI (i + 3)).toNatClampNeg) (xs (nI (i + 4)).toNatClampNeg) (xs (nI (i + 5)).toNatClampNeg) Mc Mm z hJ hfr
  obtain ⟨⟨fs0, hh⟩, -⟩ := hJh Mc Mm hJ
  obtain ⟨-, ⟨fs1, hmm⟩⟩ := hJh Mc Mm hJ
  refine l_aload (pc := 244) hF dL_law_244 rfl rfl ?_
  refine l_aload (pc := 245) hF dL_law_245 rfl rfl ?_
  refine l_iload (pc := 246) hF dL_law_246 rfl rfl ?_
  refine l_iconst (pc := 247) hF dL_law_247 (1 : Int32) (by decide) ?_
  refine l_iadd (pc := 248) hF dL_law_248 (nI_p1 i) ?_
  refine l_sld (pc := 249) hF (vp_in_nI (show i + 1 < n by omega) (by omega)) dL_law_249 ?_
  refine l_aload (pc := 250) hF dL_law_250 rfl rfl ?_
  refine l_iload (pc := 251) hF dL_law_251 rfl rfl ?_
  refine l_iconst (pc := 252) hF dL_law_252 (2 : Int32) (by decide) ?_
  refine l_iadd (pc := 253) hF dL_law_253 (nI_p2 i) ?_
  refine l_sld (pc := 254) hF (vp_in_nI (show i + 2 < n by omega) (by omega)) dL_law_254 ?_
  refine l_aload (pc := 255) hF dL_law_255 rfl rfl ?_
  refine l_iload (pc := 256) hF dL_law_256 rfl rfl ?_
  refine l_iconst (pc := 257) hF dL_law_257 (3 : Int32) (by decide) ?_
  refine l_iadd (pc := 258) hF dL_law_258 (nI_p3 i) ?_
  refine l_sld (pc := 259) hF (vp_in_nI (show i + 3 < n by omega) (by omega)) dL_law_259 ?_
  refine l_aload (pc := 260) hF dL_law_260 rfl rfl ?_
  refine l_iload (pc := 261) hF dL_law_261 rfl rfl ?_
  refine l_iconst (pc := 262) hF dL_law_262 (4 : Int32) (by decide) ?_
  refine l_iadd (pc := 263) hF dL_law_263 (nI_p4 i) ?_
  refine l_sld (pc := 264) hF (vp_in_nI (show i + 4 < n by omega) (by omega)) dL_law_264 ?_
  refine l_aload (pc := 265) hF dL_law_265 rfl rfl ?_
  refine l_iload (pc := 266) hF dL_law_266 rfl rfl ?_
  refine l_iconst (pc := 267) hF dL_law_267 (5 : Int32) (by decide) ?_
  refine l_iadd (pc := 268) hF dL_law_268 (nI_p5 i) ?_
  refine l_sld (pc := 269) hF (vp_in_nI (show i + 5 < n by omega) (by omega)) dL_law_269 ?_
  refine l_callV (pc := 270) (As := [.int (xs (nI (i + 1)).toNatClampNeg), .int (xs (nI (i + 2)).toNatClampNeg), .int (xs (nI (i + 3)).toNatClampNeg), .int (xs (nI (i + 4)).toNatClampNeg), .int (xs (nI (i + 5)).toNatClampNeg)]) (st := []) hF (mX0_line (some h) (xs (nI (i + 1)).toNatClampNeg) (xs (nI (i + 2)).toNatClampNeg) (xs (nI (i + 3)).toNatClampNeg) (xs (nI (i + 4)).toNatClampNeg) (xs (nI (i + 5)).toNatClampNeg)) cw_X0_line q530 q531 hh rfl q532 rfl ⟨Nat.le_of_ble_eq_true rfl, Nat.le_of_ble_eq_true rfl⟩ ⟨trivial, Nat.le_of_ble_eq_true rfl⟩ dL_law_270 rfl h1 (by omega) (by omega) ?_
  refine l_aload (pc := 273) hF dL_law_273 rfl rfl ?_
  refine l_aload (pc := 274) hF dL_law_274 rfl rfl ?_
  refine l_iload (pc := 275) hF dL_law_275 rfl rfl ?_
  refine l_iconst (pc := 276) hF dL_law_276 (1 : Int32) (by decide) ?_
  refine l_iadd (pc := 277) hF dL_law_277 (nI_p1 i) ?_
  refine l_sld (pc := 278) hF (vp_in_nI (show i + 1 < n by omega) (by omega)) dL_law_278 ?_
  refine l_aload (pc := 279) hF dL_law_279 rfl rfl ?_
  refine l_iload (pc := 280) hF dL_law_280 rfl rfl ?_
  refine l_iconst (pc := 281) hF dL_law_281 (2 : Int32) (by decide) ?_
  refine l_iadd (pc := 282) hF dL_law_282 (nI_p2 i) ?_
  refine l_sld (pc := 283) hF (vp_in_nI (show i + 2 < n by omega) (by omega)) dL_law_283 ?_
  refine l_aload (pc := 284) hF dL_law_284 rfl rfl ?_
  refine l_iload (pc := 285) hF dL_law_285 rfl rfl ?_
  refine l_iconst (pc := 286) hF dL_law_286 (3 : Int32) (by decide) ?_
  refine l_iadd (pc := 287) hF dL_law_287 (nI_p3 i) ?_
  refine l_sld (pc := 288) hF (vp_in_nI (show i + 3 < n by omega) (by omega)) dL_law_288 ?_
  refine l_aload (pc := 289) hF dL_law_289 rfl rfl ?_
  refine l_iload (pc := 290) hF dL_law_290 rfl rfl ?_
  refine l_iconst (pc := 291) hF dL_law_291 (4 : Int32) (by decide) ?_
  refine l_iadd (pc := 292) hF dL_law_292 (nI_p4 i) ?_
  refine l_sld (pc := 293) hF (vp_in_nI (show i + 4 < n by omega) (by omega)) dL_law_293 ?_
  refine l_aload (pc := 294) hF dL_law_294 rfl rfl ?_
  refine l_iload (pc := 295) hF dL_law_295 rfl rfl ?_
  refine l_iconst (pc := 296) hF dL_law_296 (5 : Int32) (by decide) ?_
  refine l_iadd (pc := 297) hF dL_law_297 (nI_p5 i) ?_
  refine l_sld (pc := 298) hF (vp_in_nI (show i + 5 < n by omega) (by omega)) dL_law_298 ?_
  refine LW.swap ?_
  refine l_callV (pc := 299) (As := [.int (xs (nI (i + 1)).toNatClampNeg), .int (xs (nI (i + 2)).toNatClampNeg), .int (xs (nI (i + 3)).toNatClampNeg), .int (xs (nI (i + 4)).toNatClampNeg), .int (xs (nI (i + 5)).toNatClampNeg)]) (st := [.int r]) hF (mX1_line (some m) (xs (nI (i + 1)).toNatClampNeg) (xs (nI (i + 2)).toNatClampNeg) (xs (nI (i + 3)).toNatClampNeg) (xs (nI (i + 4)).toNatClampNeg) (xs (nI (i + 5)).toNatClampNeg)) cw_X1_line q1162 q1163 hmm rfl q1164 rfl ⟨Nat.le_of_ble_eq_true rfl, Nat.le_of_ble_eq_true rfl⟩ ⟨⟨rfl, trivial⟩, Nat.le_of_ble_eq_true rfl⟩ dL_law_299 rfl h2 (by omega) (by omega) ?_
  refine LW.swap ?_
  refine l_same (pc := 302) hF 854 dL_law_302 rfl ?_
  exact kk Mc' Mm' _ _ _ hJ' (by omega) (by omega)
set_option maxHeartbeats 4000000 in
theorem law_c3 {X : LCx} {n i h m z cells slots : Nat} {xs : Nat → Int32} {Mc Mm : Mp} {J : Mp → Mp → Prop} (hF : LF X n xs) (hi : i + 7 ≤ n) (hn : n ≤ 448) (hJ : J Mc Mm) (hJh : ∀ Mc Mm, J Mc Mm → (∃ fs, Mc h = some (.inr (0, fs))) ∧ (∃ fs, Mm m = some (.inr (1, fs)))) (op : OpOk J (fX0_back (some h) ) (fX1_back (some m) ))
    (hc : cells + 12000 ≤ 837981) (hs : slots + 90000 ≤ 6588305) (kk : ∀ Mc' Mm' z' c' s', J Mc' Mm' → c' ≤ cells + 12000 → s' ≤ slots + 90000 → LW X 854 [some (.ref (bOf X)), some (.ref h), some (.ref m), some (.int (nI i))] [] Mc' Mm' z' c' s') : LW X 307 [some (.ref (bOf X)), some (.ref h), some (.ref m), some (.int (nI i))] [] Mc Mm z cells slots := by
  refine LW.fresh fun hfr => ?_
  obtain ⟨r, Mc', dc, ds, Mm', h1, hdc, hds, h2, hJ'⟩ := op  Mc Mm z hJ hfr
  obtain ⟨⟨fs0, hh⟩, -⟩ := hJh Mc Mm hJ
  obtain ⟨-, ⟨fs1, hmm⟩⟩ := hJh Mc Mm hJ
  refine l_aload (pc := 307) hF dL_law_307 rfl rfl ?_
  refine l_callV (pc := 308) (As := []) (st := []) hF (mX0_back (some h) ) cw_X0_back q566 q567 hh rfl q568 rfl ⟨Nat.le_of_ble_eq_true rfl, Nat.le_of_ble_eq_true rfl⟩ ⟨trivial, Nat.le_of_ble_eq_true rfl⟩ dL_law_308 rfl h1 (by omega) (by omega) ?_
  refine l_aload (pc := 311) hF dL_law_311 rfl rfl ?_
  refine LW.swap ?_
  refine l_callV (pc := 312) (As := []) (st := [.int r]) hF (mX1_back (some m) ) cw_X1_back q1166 q1167 hmm rfl q1168 rfl ⟨Nat.le_of_ble_eq_true rfl, Nat.le_of_ble_eq_true rfl⟩ ⟨⟨rfl, trivial⟩, Nat.le_of_ble_eq_true rfl⟩ dL_law_312 rfl h2 (by omega) (by omega) ?_
  refine LW.swap ?_
  refine l_same (pc := 315) hF 854 dL_law_315 rfl ?_
  exact kk Mc' Mm' _ _ _ hJ' (by omega) (by omega)
set_option maxHeartbeats 4000000 in
theorem law_c4 {X : LCx} {n i h m z cells slots : Nat} {xs : Nat → Int32} {Mc Mm : Mp} {J : Mp → Mp → Prop} (hF : LF X n xs) (hi : i + 7 ≤ n) (hn : n ≤ 448) (hJ : J Mc Mm) (hJh : ∀ Mc Mm, J Mc Mm → (∃ fs, Mc h = some (.inr (0, fs))) ∧ (∃ fs, Mm m = some (.inr (1, fs)))) (op : OpOk J (fX0_erase (some h) ) (fX1_erase (some m) ))
    (hc : cells + 12000 ≤ 837981) (hs : slots + 90000 ≤ 6588305) (kk : ∀ Mc' Mm' z' c' s', J Mc' Mm' → c' ≤ cells + 12000 → s' ≤ slots + 90000 → LW X 854 [some (.ref (bOf X)), some (.ref h), some (.ref m), some (.int (nI i))] [] Mc' Mm' z' c' s') : LW X 320 [some (.ref (bOf X)), some (.ref h), some (.ref m), some (.int (nI i))] [] Mc Mm z cells slots := by
  refine LW.fresh fun hfr => ?_
  obtain ⟨r, Mc', dc, ds, Mm', h1, hdc, hds, h2, hJ'⟩ := op  Mc Mm z hJ hfr
  obtain ⟨⟨fs0, hh⟩, -⟩ := hJh Mc Mm hJ
  obtain ⟨-, ⟨fs1, hmm⟩⟩ := hJh Mc Mm hJ
  refine l_aload (pc := 320) hF dL_law_320 rfl rfl ?_
  refine l_callV (pc := 321) (As := []) (st := []) hF (mX0_erase (some h) ) cw_X0_erase q593 q594 hh rfl q595 rfl ⟨Nat.le_of_ble_eq_true rfl, Nat.le_of_ble_eq_true rfl⟩ ⟨trivial, Nat.le_of_ble_eq_true rfl⟩ dL_law_321 rfl h1 (by omega) (by omega) ?_
  refine l_aload (pc := 324) hF dL_law_324 rfl rfl ?_
  refine LW.swap ?_
  refine l_callV (pc := 325) (As := []) (st := [.int r]) hF (mX1_erase (some m) ) cw_X1_erase q1170 q1171 hmm rfl q1172 rfl ⟨Nat.le_of_ble_eq_true rfl, Nat.le_of_ble_eq_true rfl⟩ ⟨⟨rfl, trivial⟩, Nat.le_of_ble_eq_true rfl⟩ dL_law_325 rfl h2 (by omega) (by omega) ?_
  refine LW.swap ?_
  refine l_same (pc := 328) hF 854 dL_law_328 rfl ?_
  exact kk Mc' Mm' _ _ _ hJ' (by omega) (by omega)
set_option maxHeartbeats 4000000 in
theorem law_c5 {X : LCx} {n i h m z cells slots : Nat} {xs : Nat → Int32} {Mc Mm : Mp} {J : Mp → Mp → Prop} (hF : LF X n xs) (hi : i + 7 ≤ n) (hn : n ≤ 448) (hJ : J Mc Mm) (hJh : ∀ Mc Mm, J Mc Mm → (∃ fs, Mc h = some (.inr (0, fs))) ∧ (∃ fs, Mm m = some (.inr (1, fs)))) (op : OpOk J (fX0_clear (some h) ) (fX1_clear (some m) ))
    (hc : cells + 12000 ≤ 837981) (hs : slots + 90000 ≤ 6588305) (kk : ∀ Mc' Mm' z' c' s', J Mc' Mm' → c' ≤ cells + 12000 → s' ≤ slots + 90000 → LW X 854 [some (.ref (bOf X)), some (.ref h), some (.ref m), some (.int (nI i))] [] Mc' Mm' z' c' s') : LW X 333 [some (.ref (bOf X)), some (.ref h), some (.ref m), some (.int (nI i))] [] Mc Mm z cells slots := by
  refine LW.fresh fun hfr => ?_
  obtain ⟨r, Mc', dc, ds, Mm', h1, hdc, hds, h2, hJ'⟩ := op  Mc Mm z hJ hfr
  obtain ⟨⟨fs0, hh⟩, -⟩ := hJh Mc Mm hJ
  obtain ⟨-, ⟨fs1, hmm⟩⟩ := hJh Mc Mm hJ
  refine l_aload (pc := 333) hF dL_law_333 rfl rfl ?_
  refine l_callV (pc := 334) (As := []) (st := []) hF (mX0_clear (some h) ) cw_X0_clear q597 q598 hh rfl q599 rfl ⟨Nat.le_of_ble_eq_true rfl, Nat.le_of_ble_eq_true rfl⟩ ⟨trivial, Nat.le_of_ble_eq_true rfl⟩ dL_law_334 rfl h1 (by omega) (by omega) ?_
  refine l_aload (pc := 337) hF dL_law_337 rfl rfl ?_
  refine LW.swap ?_
  refine l_callV (pc := 338) (As := []) (st := [.int r]) hF (mX1_clear (some m) ) cw_X1_clear q1174 q1175 hmm rfl q1176 rfl ⟨Nat.le_of_ble_eq_true rfl, Nat.le_of_ble_eq_true rfl⟩ ⟨⟨rfl, trivial⟩, Nat.le_of_ble_eq_true rfl⟩ dL_law_338 rfl h2 (by omega) (by omega) ?_
  refine LW.swap ?_
  refine l_same (pc := 341) hF 854 dL_law_341 rfl ?_
  exact kk Mc' Mm' _ _ _ hJ' (by omega) (by omega)
set_option maxHeartbeats 4000000 in
theorem law_c6 {X : LCx} {n i h m z cells slots : Nat} {xs : Nat → Int32} {Mc Mm : Mp} {J : Mp → Mp → Prop} (hF : LF X n xs) (hi : i + 7 ≤ n) (hn : n ≤ 448) (hJ : J Mc Mm) (hJh : ∀ Mc Mm, J Mc Mm → (∃ fs, Mc h = some (.inr (0, fs))) ∧ (∃ fs, Mm m = some (.inr (1, fs)))) (op : OpOk J (fX0_turn (some h) ) (fX1_turn (some m) ))
    (hc : cells + 12000 ≤ 837981) (hs : slots + 90000 ≤ 6588305) (kk : ∀ Mc' Mm' z' c' s', J Mc' Mm' → c' ≤ cells + 12000 → s' ≤ slots + 90000 → LW X 854 [some (.ref (bOf X)), some (.ref h), some (.ref m), some (.int (nI i))] [] Mc' Mm' z' c' s') : LW X 346 [some (.ref (bOf X)), some (.ref h), some (.ref m), some (.int (nI i))] [] Mc Mm z cells slots := by
  refine LW.fresh fun hfr => ?_
  obtain ⟨r, Mc', dc, ds, Mm', h1, hdc, hds, h2, hJ'⟩ := op  Mc Mm z hJ hfr
  obtain ⟨⟨fs0, hh⟩, -⟩ := hJh Mc Mm hJ
  obtain ⟨-, ⟨fs1, hmm⟩⟩ := hJh Mc Mm hJ
  refine l_aload (pc := 346) hF dL_law_346 rfl rfl ?_
  refine l_callV (pc := 347) (As := []) (st := []) hF (mX0_turn (some h) ) cw_X0_turn q610 q611 hh rfl q612 rfl ⟨Nat.le_of_ble_eq_true rfl, Nat.le_of_ble_eq_true rfl⟩ ⟨trivial, Nat.le_of_ble_eq_true rfl⟩ dL_law_347 rfl h1 (by omega) (by omega) ?_
  refine l_aload (pc := 350) hF dL_law_350 rfl rfl ?_
  refine LW.swap ?_
  refine l_callV (pc := 351) (As := []) (st := [.int r]) hF (mX1_turn (some m) ) cw_X1_turn q1178 q1179 hmm rfl q1180 rfl ⟨Nat.le_of_ble_eq_true rfl, Nat.le_of_ble_eq_true rfl⟩ ⟨⟨rfl, trivial⟩, Nat.le_of_ble_eq_true rfl⟩ dL_law_351 rfl h2 (by omega) (by omega) ?_
  refine LW.swap ?_
  refine l_same (pc := 354) hF 854 dL_law_354 rfl ?_
  exact kk Mc' Mm' _ _ _ hJ' (by omega) (by omega)
set_option maxHeartbeats 4000000 in
theorem law_c7 {X : LCx} {n i h m z cells slots : Nat} {xs : Nat → Int32} {Mc Mm : Mp} {J : Mp → Mp → Prop} (hF : LF X n xs) (hi : i + 7 ≤ n) (hn : n ≤ 448) (hJ : J Mc Mm) (hJh : ∀ Mc Mm, J Mc Mm → (∃ fs, Mc h = some (.inr (0, fs))) ∧ (∃ fs, Mm m = some (.inr (1, fs)))) (op : ∀ (a0 a1 : Int32), OpOk J (fX0_ofBlock (some h) a0 a1) (fX1_ofBlock (some m) a0 a1))
    (hc : cells + 12000 ≤ 837981) (hs : slots + 90000 ≤ 6588305) (kk : ∀ Mc' Mm' z' c' s', J Mc' Mm' → c' ≤ cells + 12000 → s' ≤ slots + 90000 → LW X 854 [some (.ref (bOf X)), some (.ref h), some (.ref m), some (.int (nI i))] [] Mc' Mm' z' c' s') : LW X 359 [some (.ref (bOf X)), some (.ref h), some (.ref m), some (.int (nI i))] [] Mc Mm z cells slots := by
  refine LW.fresh fun hfr => ?_
  obtain ⟨r, Mc', dc, ds, Mm', h1, hdc, hds, h2, hJ'⟩ := op (xs (nI (i + 1)).toNatClampNeg) (xs (nI (i + 2)).toNatClampNeg) Mc Mm z hJ hfr
  obtain ⟨⟨fs0, hh⟩, -⟩ := hJh Mc Mm hJ
  obtain ⟨-, ⟨fs1, hmm⟩⟩ := hJh Mc Mm hJ
  refine l_aload (pc := 359) hF dL_law_359 rfl rfl ?_
  refine l_aload (pc := 360) hF dL_law_360 rfl rfl ?_
  refine l_iload (pc := 361) hF dL_law_361 rfl rfl ?_
  refine l_iconst (pc := 362) hF dL_law_362 (1 : Int32) (by decide) ?_
  refine l_iadd (pc := 363) hF dL_law_363 (nI_p1 i) ?_
  refine l_sld (pc := 364) hF (vp_in_nI (show i + 1 < n by omega) (by omega)) dL_law_364 ?_
  refine l_aload (pc := 365) hF dL_law_365 rfl rfl ?_
  refine l_iload (pc := 366) hF dL_law_366 rfl rfl ?_
  refine l_iconst (pc := 367) hF dL_law_367 (2 : Int32) (by decide) ?_
  refine l_iadd (pc := 368) hF dL_law_368 (nI_p2 i) ?_
  refine l_sld (pc := 369) hF (vp_in_nI (show i + 2 < n by omega) (by omega)) dL_law_369 ?_
  refine l_callV (pc := 370) (As := [.int (xs (nI (i + 1)).toNatClampNeg), .int (xs (nI (i + 2)).toNatClampNeg)]) (st := []) hF (mX0_ofBlock (some h) (xs (nI (i + 1)).toNatClampNeg) (xs (nI (i + 2)).toNatClampNeg)) cw_X0_ofBlock q614 q615 hh rfl q616 rfl ⟨Nat.le_of_ble_eq_true rfl, Nat.le_of_ble_eq_true rfl⟩ ⟨trivial, Nat.le_of_ble_eq_true rfl⟩ dL_law_370 rfl h1 (by omega) (by omega) ?_
  refine l_aload (pc := 373) hF dL_law_373 rfl rfl ?_
  refine l_aload (pc := 374) hF dL_law_374 rfl rfl ?_
  refine l_iload (pc := 375) hF dL_law_375 rfl rfl ?_
  refine l_iconst (pc := 376) hF dL_law_376 (1 : Int32) (by decide) ?_
  refine l_iadd (pc := 377) hF dL_law_377 (nI_p1 i) ?_
  refine l_sld (pc := 378) hF (vp_in_nI (show i + 1 < n by omega) (by omega)) dL_law_378 ?_
  refine l_aload (pc := 379) hF dL_law_379 rfl rfl ?_
  refine l_iload (pc := 380) hF dL_law_380 rfl rfl ?_
  refine l_iconst (pc := 381) hF dL_law_381 (2 : Int32) (by decide) ?_
  refine l_iadd (pc := 382) hF dL_law_382 (nI_p2 i) ?_
  refine l_sld (pc := 383) hF (vp_in_nI (show i + 2 < n by omega) (by omega)) dL_law_383 ?_
  refine LW.swap ?_
  refine l_callV (pc := 384) (As := [.int (xs (nI (i + 1)).toNatClampNeg), .int (xs (nI (i + 2)).toNatClampNeg)]) (st := [.int r]) hF (mX1_ofBlock (some m) (xs (nI (i + 1)).toNatClampNeg) (xs (nI (i + 2)).toNatClampNeg)) cw_X1_ofBlock q1182 q1183 hmm rfl q1184 rfl ⟨Nat.le_of_ble_eq_true rfl, Nat.le_of_ble_eq_true rfl⟩ ⟨⟨rfl, trivial⟩, Nat.le_of_ble_eq_true rfl⟩ dL_law_384 rfl h2 (by omega) (by omega) ?_
  refine LW.swap ?_
  refine l_same (pc := 387) hF 854 dL_law_387 rfl ?_
  exact kk Mc' Mm' _ _ _ hJ' (by omega) (by omega)
set_option maxHeartbeats 4000000 in
theorem law_c8 {X : LCx} {n i h m z cells slots : Nat} {xs : Nat → Int32} {Mc Mm : Mp} {J : Mp → Mp → Prop} (hF : LF X n xs) (hi : i + 7 ≤ n) (hn : n ≤ 448) (hJ : J Mc Mm) (hJh : ∀ Mc Mm, J Mc Mm → (∃ fs, Mc h = some (.inr (0, fs))) ∧ (∃ fs, Mm m = some (.inr (1, fs)))) (op : ∀ (a0 a1 : Int32), OpOk J (fX0_ofLine (some h) a0 a1) (fX1_ofLine (some m) a0 a1))
    (hc : cells + 12000 ≤ 837981) (hs : slots + 90000 ≤ 6588305) (kk : ∀ Mc' Mm' z' c' s', J Mc' Mm' → c' ≤ cells + 12000 → s' ≤ slots + 90000 → LW X 854 [some (.ref (bOf X)), some (.ref h), some (.ref m), some (.int (nI i))] [] Mc' Mm' z' c' s') : LW X 392 [some (.ref (bOf X)), some (.ref h), some (.ref m), some (.int (nI i))] [] Mc Mm z cells slots := by
  refine LW.fresh fun hfr => ?_
  obtain ⟨r, Mc', dc, ds, Mm', h1, hdc, hds, h2, hJ'⟩ := op (xs (nI (i + 1)).toNatClampNeg) (xs (nI (i + 2)).toNatClampNeg) Mc Mm z hJ hfr
  obtain ⟨⟨fs0, hh⟩, -⟩ := hJh Mc Mm hJ
  obtain ⟨-, ⟨fs1, hmm⟩⟩ := hJh Mc Mm hJ
  refine l_aload (pc := 392) hF dL_law_392 rfl rfl ?_
  refine l_aload (pc := 393) hF dL_law_393 rfl rfl ?_
  refine l_iload (pc := 394) hF dL_law_394 rfl rfl ?_
  refine l_iconst (pc := 395) hF dL_law_395 (1 : Int32) (by decide) ?_
  refine l_iadd (pc := 396) hF dL_law_396 (nI_p1 i) ?_
  refine l_sld (pc := 397) hF (vp_in_nI (show i + 1 < n by omega) (by omega)) dL_law_397 ?_
  refine l_aload (pc := 398) hF dL_law_398 rfl rfl ?_
  refine l_iload (pc := 399) hF dL_law_399 rfl rfl ?_
  refine l_iconst (pc := 400) hF dL_law_400 (2 : Int32) (by decide) ?_
  refine l_iadd (pc := 401) hF dL_law_401 (nI_p2 i) ?_
  refine l_sld (pc := 402) hF (vp_in_nI (show i + 2 < n by omega) (by omega)) dL_law_402 ?_
  refine l_callV (pc := 403) (As := [.int (xs (nI (i + 1)).toNatClampNeg), .int (xs (nI (i + 2)).toNatClampNeg)]) (st := []) hF (mX0_ofLine (some h) (xs (nI (i + 1)).toNatClampNeg) (xs (nI (i + 2)).toNatClampNeg)) cw_X0_ofLine q618 q619 hh rfl q620 rfl ⟨Nat.le_of_ble_eq_true rfl, Nat.le_of_ble_eq_true rfl⟩ ⟨trivial, Nat.le_of_ble_eq_true rfl⟩ dL_law_403 rfl h1 (by omega) (by omega) ?_
  refine l_aload (pc := 406) hF dL_law_406 rfl rfl ?_
  refine l_aload (pc := 407) hF dL_law_407 rfl rfl ?_
  refine l_iload (pc := 408) hF dL_law_408 rfl rfl ?_
  refine l_iconst (pc := 409) hF dL_law_409 (1 : Int32) (by decide) ?_
  refine l_iadd (pc := 410) hF dL_law_410 (nI_p1 i) ?_
  refine l_sld (pc := 411) hF (vp_in_nI (show i + 1 < n by omega) (by omega)) dL_law_411 ?_
  refine l_aload (pc := 412) hF dL_law_412 rfl rfl ?_
  refine l_iload (pc := 413) hF dL_law_413 rfl rfl ?_
  refine l_iconst (pc := 414) hF dL_law_414 (2 : Int32) (by decide) ?_
  refine l_iadd (pc := 415) hF dL_law_415 (nI_p2 i) ?_
  refine l_sld (pc := 416) hF (vp_in_nI (show i + 2 < n by omega) (by omega)) dL_law_416 ?_
  refine LW.swap ?_
  refine l_callV (pc := 417) (As := [.int (xs (nI (i + 1)).toNatClampNeg), .int (xs (nI (i + 2)).toNatClampNeg)]) (st := [.int r]) hF (mX1_ofLine (some m) (xs (nI (i + 1)).toNatClampNeg) (xs (nI (i + 2)).toNatClampNeg)) cw_X1_ofLine q1186 q1187 hmm rfl q1188 rfl ⟨Nat.le_of_ble_eq_true rfl, Nat.le_of_ble_eq_true rfl⟩ ⟨⟨rfl, trivial⟩, Nat.le_of_ble_eq_true rfl⟩ dL_law_417 rfl h2 (by omega) (by omega) ?_
  refine LW.swap ?_
  refine l_same (pc := 420) hF 854 dL_law_420 rfl ?_
  exact kk Mc' Mm' _ _ _ hJ' (by omega) (by omega)
set_option maxHeartbeats 4000000 in
theorem law_c9 {X : LCx} {n i h m z cells slots : Nat} {xs : Nat → Int32} {Mc Mm : Mp} {J : Mp → Mp → Prop} (hF : LF X n xs) (hi : i + 7 ≤ n) (hn : n ≤ 448) (hJ : J Mc Mm) (hJh : ∀ Mc Mm, J Mc Mm → (∃ fs, Mc h = some (.inr (0, fs))) ∧ (∃ fs, Mm m = some (.inr (1, fs)))) (op : ∀ (a0 a1 a2 : Int32), OpOk J (fX0_at (some h) a0 a1 a2) (fX1_at (some m) a0 a1 a2))
    (hc : cells + 12000 ≤ 837981) (hs : slots + 90000 ≤ 6588305) (kk : ∀ Mc' Mm' z' c' s', J Mc' Mm' → c' ≤ cells + 12000 → s' ≤ slots + 90000 → LW X 854 [some (.ref (bOf X)), some (.ref h), some (.ref m), some (.int (nI i))] [] Mc' Mm' z' c' s') : LW X 425 [some (.ref (bOf X)), some (.ref h), some (.ref m), some (.int (nI i))] [] Mc Mm z cells slots := by
  refine LW.fresh fun hfr => ?_
  obtain ⟨r, Mc', dc, ds, Mm', h1, hdc, hds, h2, hJ'⟩ := op (xs (nI (i + 1)).toNatClampNeg) (xs (nI (i + 2)).toNatClampNeg) (xs (nI (i + 3)).toNatClampNeg) Mc Mm z hJ hfr
  obtain ⟨⟨fs0, hh⟩, -⟩ := hJh Mc Mm hJ
  obtain ⟨-, ⟨fs1, hmm⟩⟩ := hJh Mc Mm hJ
  refine l_aload (pc := 425) hF dL_law_425 rfl rfl ?_
  refine l_aload (pc := 426) hF dL_law_426 rfl rfl ?_
  refine l_iload (pc := 427) hF dL_law_427 rfl rfl ?_
  refine l_iconst (pc := 428) hF dL_law_428 (1 : Int32) (by decide) ?_
  refine l_iadd (pc := 429) hF dL_law_429 (nI_p1 i) ?_
  refine l_sld (pc := 430) hF (vp_in_nI (show i + 1 < n by omega) (by omega)) dL_law_430 ?_
  refine l_aload (pc := 431) hF dL_law_431 rfl rfl ?_
  refine l_iload (pc := 432) hF dL_law_432 rfl rfl ?_
  refine l_iconst (pc := 433) hF dL_law_433 (2 : Int32) (by decide) ?_
  refine l_iadd (pc := 434) hF dL_law_434 (nI_p2 i) ?_
  refine l_sld (pc := 435) hF (vp_in_nI (show i + 2 < n by omega) (by omega)) dL_law_435 ?_
  refine l_aload (pc := 436) hF dL_law_436 rfl rfl ?_
  refine l_iload (pc := 437) hF dL_law_437 rfl rfl ?_
  refine l_iconst (pc := 438) hF dL_law_438 (3 : Int32) (by decide) ?_
  refine l_iadd (pc := 439) hF dL_law_439 (nI_p3 i) ?_
  refine l_sld (pc := 440) hF (vp_in_nI (show i + 3 < n by omega) (by omega)) dL_law_440 ?_
  refine l_callV (pc := 441) (As := [.int (xs (nI (i + 1)).toNatClampNeg), .int (xs (nI (i + 2)).toNatClampNeg), .int (xs (nI (i + 3)).toNatClampNeg)]) (st := []) hF (mX0_at (some h) (xs (nI (i + 1)).toNatClampNeg) (xs (nI (i + 2)).toNatClampNeg) (xs (nI (i + 3)).toNatClampNeg)) cw_X0_at q622 q623 hh rfl q624 rfl ⟨Nat.le_of_ble_eq_true rfl, Nat.le_of_ble_eq_true rfl⟩ ⟨trivial, Nat.le_of_ble_eq_true rfl⟩ dL_law_441 rfl h1 (by omega) (by omega) ?_
  refine l_aload (pc := 444) hF dL_law_444 rfl rfl ?_
  refine l_aload (pc := 445) hF dL_law_445 rfl rfl ?_
  refine l_iload (pc := 446) hF dL_law_446 rfl rfl ?_
  refine l_iconst (pc := 447) hF dL_law_447 (1 : Int32) (by decide) ?_
  refine l_iadd (pc := 448) hF dL_law_448 (nI_p1 i) ?_
  refine l_sld (pc := 449) hF (vp_in_nI (show i + 1 < n by omega) (by omega)) dL_law_449 ?_
  refine l_aload (pc := 450) hF dL_law_450 rfl rfl ?_
  refine l_iload (pc := 451) hF dL_law_451 rfl rfl ?_
  refine l_iconst (pc := 452) hF dL_law_452 (2 : Int32) (by decide) ?_
  refine l_iadd (pc := 453) hF dL_law_453 (nI_p2 i) ?_
  refine l_sld (pc := 454) hF (vp_in_nI (show i + 2 < n by omega) (by omega)) dL_law_454 ?_
  refine l_aload (pc := 455) hF dL_law_455 rfl rfl ?_
  refine l_iload (pc := 456) hF dL_law_456 rfl rfl ?_
  refine l_iconst (pc := 457) hF dL_law_457 (3 : Int32) (by decide) ?_
  refine l_iadd (pc := 458) hF dL_law_458 (nI_p3 i) ?_
  refine l_sld (pc := 459) hF (vp_in_nI (show i + 3 < n by omega) (by omega)) dL_law_459 ?_
  refine LW.swap ?_
  refine l_callV (pc := 460) (As := [.int (xs (nI (i + 1)).toNatClampNeg), .int (xs (nI (i + 2)).toNatClampNeg), .int (xs (nI (i + 3)).toNatClampNeg)]) (st := [.int r]) hF (mX1_at (some m) (xs (nI (i + 1)).toNatClampNeg) (xs (nI (i + 2)).toNatClampNeg) (xs (nI (i + 3)).toNatClampNeg)) cw_X1_at q1190 q1191 hmm rfl q1192 rfl ⟨Nat.le_of_ble_eq_true rfl, Nat.le_of_ble_eq_true rfl⟩ ⟨⟨rfl, trivial⟩, Nat.le_of_ble_eq_true rfl⟩ dL_law_460 rfl h2 (by omega) (by omega) ?_
  refine LW.swap ?_
  refine l_same (pc := 463) hF 854 dL_law_463 rfl ?_
  exact kk Mc' Mm' _ _ _ hJ' (by omega) (by omega)
set_option maxHeartbeats 4000000 in
theorem law_c10 {X : LCx} {n i h m z cells slots : Nat} {xs : Nat → Int32} {Mc Mm : Mp} {J : Mp → Mp → Prop} (hF : LF X n xs) (hi : i + 7 ≤ n) (hn : n ≤ 448) (hJ : J Mc Mm) (hJh : ∀ Mc Mm, J Mc Mm → (∃ fs, Mc h = some (.inr (0, fs))) ∧ (∃ fs, Mm m = some (.inr (1, fs)))) (op : ∀ (a0 a1 : Int32), OpOk J (fX0_reach (some h) a0 a1) (fX1_reach (some m) a0 a1))
    (hc : cells + 12000 ≤ 837981) (hs : slots + 90000 ≤ 6588305) (kk : ∀ Mc' Mm' z' c' s', J Mc' Mm' → c' ≤ cells + 12000 → s' ≤ slots + 90000 → LW X 854 [some (.ref (bOf X)), some (.ref h), some (.ref m), some (.int (nI i))] [] Mc' Mm' z' c' s') : LW X 468 [some (.ref (bOf X)), some (.ref h), some (.ref m), some (.int (nI i))] [] Mc Mm z cells slots := by
  refine LW.fresh fun hfr => ?_
  obtain ⟨r, Mc', dc, ds, Mm', h1, hdc, hds, h2, hJ'⟩ := op (xs (nI (i + 1)).toNatClampNeg) (xs (nI (i + 2)).toNatClampNeg) Mc Mm z hJ hfr
  obtain ⟨⟨fs0, hh⟩, -⟩ := hJh Mc Mm hJ
  obtain ⟨-, ⟨fs1, hmm⟩⟩ := hJh Mc Mm hJ
  refine l_aload (pc := 468) hF dL_law_468 rfl rfl ?_
  refine l_aload (pc := 469) hF dL_law_469 rfl rfl ?_
  refine l_iload (pc := 470) hF dL_law_470 rfl rfl ?_
  refine l_iconst (pc := 471) hF dL_law_471 (1 : Int32) (by decide) ?_
  refine l_iadd (pc := 472) hF dL_law_472 (nI_p1 i) ?_
  refine l_sld (pc := 473) hF (vp_in_nI (show i + 1 < n by omega) (by omega)) dL_law_473 ?_
  refine l_aload (pc := 474) hF dL_law_474 rfl rfl ?_
  refine l_iload (pc := 475) hF dL_law_475 rfl rfl ?_
  refine l_iconst (pc := 476) hF dL_law_476 (2 : Int32) (by decide) ?_
  refine l_iadd (pc := 477) hF dL_law_477 (nI_p2 i) ?_
  refine l_sld (pc := 478) hF (vp_in_nI (show i + 2 < n by omega) (by omega)) dL_law_478 ?_
  refine l_callV (pc := 479) (As := [.int (xs (nI (i + 1)).toNatClampNeg), .int (xs (nI (i + 2)).toNatClampNeg)]) (st := []) hF (mX0_reach (some h) (xs (nI (i + 1)).toNatClampNeg) (xs (nI (i + 2)).toNatClampNeg)) cw_X0_reach q639 q640 hh rfl q641 rfl ⟨Nat.le_of_ble_eq_true rfl, Nat.le_of_ble_eq_true rfl⟩ ⟨trivial, Nat.le_of_ble_eq_true rfl⟩ dL_law_479 rfl h1 (by omega) (by omega) ?_
  refine l_aload (pc := 482) hF dL_law_482 rfl rfl ?_
  refine l_aload (pc := 483) hF dL_law_483 rfl rfl ?_
  refine l_iload (pc := 484) hF dL_law_484 rfl rfl ?_
  refine l_iconst (pc := 485) hF dL_law_485 (1 : Int32) (by decide) ?_
  refine l_iadd (pc := 486) hF dL_law_486 (nI_p1 i) ?_
  refine l_sld (pc := 487) hF (vp_in_nI (show i + 1 < n by omega) (by omega)) dL_law_487 ?_
  refine l_aload (pc := 488) hF dL_law_488 rfl rfl ?_
  refine l_iload (pc := 489) hF dL_law_489 rfl rfl ?_
  refine l_iconst (pc := 490) hF dL_law_490 (2 : Int32) (by decide) ?_
  refine l_iadd (pc := 491) hF dL_law_491 (nI_p2 i) ?_
  refine l_sld (pc := 492) hF (vp_in_nI (show i + 2 < n by omega) (by omega)) dL_law_492 ?_
  refine LW.swap ?_
  refine l_callV (pc := 493) (As := [.int (xs (nI (i + 1)).toNatClampNeg), .int (xs (nI (i + 2)).toNatClampNeg)]) (st := [.int r]) hF (mX1_reach (some m) (xs (nI (i + 1)).toNatClampNeg) (xs (nI (i + 2)).toNatClampNeg)) cw_X1_reach q1194 q1195 hmm rfl q1196 rfl ⟨Nat.le_of_ble_eq_true rfl, Nat.le_of_ble_eq_true rfl⟩ ⟨⟨rfl, trivial⟩, Nat.le_of_ble_eq_true rfl⟩ dL_law_493 rfl h2 (by omega) (by omega) ?_
  refine LW.swap ?_
  refine l_same (pc := 496) hF 854 dL_law_496 rfl ?_
  exact kk Mc' Mm' _ _ _ hJ' (by omega) (by omega)
set_option maxHeartbeats 4000000 in
theorem law_c11 {X : LCx} {n i h m z cells slots : Nat} {xs : Nat → Int32} {Mc Mm : Mp} {J : Mp → Mp → Prop} (hF : LF X n xs) (hi : i + 7 ≤ n) (hn : n ≤ 448) (hJ : J Mc Mm) (hJh : ∀ Mc Mm, J Mc Mm → (∃ fs, Mc h = some (.inr (0, fs))) ∧ (∃ fs, Mm m = some (.inr (1, fs)))) (op : ∀ (a0 : Int32), OpOk J (fX0_under (some h) a0) (fX1_under (some m) a0))
    (hc : cells + 12000 ≤ 837981) (hs : slots + 90000 ≤ 6588305) (kk : ∀ Mc' Mm' z' c' s', J Mc' Mm' → c' ≤ cells + 12000 → s' ≤ slots + 90000 → LW X 854 [some (.ref (bOf X)), some (.ref h), some (.ref m), some (.int (nI i))] [] Mc' Mm' z' c' s') : LW X 501 [some (.ref (bOf X)), some (.ref h), some (.ref m), some (.int (nI i))] [] Mc Mm z cells slots := by
  refine LW.fresh fun hfr => ?_
  obtain ⟨r, Mc', dc, ds, Mm', h1, hdc, hds, h2, hJ'⟩ := op (xs (nI (i + 1)).toNatClampNeg) Mc Mm z hJ hfr
  obtain ⟨⟨fs0, hh⟩, -⟩ := hJh Mc Mm hJ
  obtain ⟨-, ⟨fs1, hmm⟩⟩ := hJh Mc Mm hJ
  refine l_aload (pc := 501) hF dL_law_501 rfl rfl ?_
  refine l_aload (pc := 502) hF dL_law_502 rfl rfl ?_
  refine l_iload (pc := 503) hF dL_law_503 rfl rfl ?_
  refine l_iconst (pc := 504) hF dL_law_504 (1 : Int32) (by decide) ?_
  refine l_iadd (pc := 505) hF dL_law_505 (nI_p1 i) ?_
  refine l_sld (pc := 506) hF (vp_in_nI (show i + 1 < n by omega) (by omega)) dL_law_506 ?_
  refine l_callV (pc := 507) (As := [.int (xs (nI (i + 1)).toNatClampNeg)]) (st := []) hF (mX0_under (some h) (xs (nI (i + 1)).toNatClampNeg)) cw_X0_under q667 q668 hh rfl q669 rfl ⟨Nat.le_of_ble_eq_true rfl, Nat.le_of_ble_eq_true rfl⟩ ⟨trivial, Nat.le_of_ble_eq_true rfl⟩ dL_law_507 rfl h1 (by omega) (by omega) ?_
  refine l_aload (pc := 510) hF dL_law_510 rfl rfl ?_
  refine l_aload (pc := 511) hF dL_law_511 rfl rfl ?_
  refine l_iload (pc := 512) hF dL_law_512 rfl rfl ?_
  refine l_iconst (pc := 513) hF dL_law_513 (1 : Int32) (by decide) ?_
  refine l_iadd (pc := 514) hF dL_law_514 (nI_p1 i) ?_
  refine l_sld (pc := 515) hF (vp_in_nI (show i + 1 < n by omega) (by omega)) dL_law_515 ?_
  refine LW.swap ?_
  refine l_callV (pc := 516) (As := [.int (xs (nI (i + 1)).toNatClampNeg)]) (st := [.int r]) hF (mX1_under (some m) (xs (nI (i + 1)).toNatClampNeg)) cw_X1_under q1214 q1215 hmm rfl q1216 rfl ⟨Nat.le_of_ble_eq_true rfl, Nat.le_of_ble_eq_true rfl⟩ ⟨⟨rfl, trivial⟩, Nat.le_of_ble_eq_true rfl⟩ dL_law_516 rfl h2 (by omega) (by omega) ?_
  refine LW.swap ?_
  refine l_same (pc := 519) hF 854 dL_law_519 rfl ?_
  exact kk Mc' Mm' _ _ _ hJ' (by omega) (by omega)
set_option maxHeartbeats 4000000 in
theorem law_c12 {X : LCx} {n i h m z cells slots : Nat} {xs : Nat → Int32} {Mc Mm : Mp} {J : Mp → Mp → Prop} (hF : LF X n xs) (hi : i + 7 ≤ n) (hn : n ≤ 448) (hJ : J Mc Mm) (hJh : ∀ Mc Mm, J Mc Mm → (∃ fs, Mc h = some (.inr (0, fs))) ∧ (∃ fs, Mm m = some (.inr (1, fs)))) (op : ∀ (a0 : Int32), OpOk J (fX0_story (some h) a0) (fX1_story (some m) a0))
    (hc : cells + 12000 ≤ 837981) (hs : slots + 90000 ≤ 6588305) (kk : ∀ Mc' Mm' z' c' s', J Mc' Mm' → c' ≤ cells + 12000 → s' ≤ slots + 90000 → LW X 854 [some (.ref (bOf X)), some (.ref h), some (.ref m), some (.int (nI i))] [] Mc' Mm' z' c' s') : LW X 524 [some (.ref (bOf X)), some (.ref h), some (.ref m), some (.int (nI i))] [] Mc Mm z cells slots := by
  refine LW.fresh fun hfr => ?_
  obtain ⟨r, Mc', dc, ds, Mm', h1, hdc, hds, h2, hJ'⟩ := op (xs (nI (i + 1)).toNatClampNeg) Mc Mm z hJ hfr
  obtain ⟨⟨fs0, hh⟩, -⟩ := hJh Mc Mm hJ
  obtain ⟨-, ⟨fs1, hmm⟩⟩ := hJh Mc Mm hJ
  refine l_aload (pc := 524) hF dL_law_524 rfl rfl ?_
  refine l_aload (pc := 525) hF dL_law_525 rfl rfl ?_
  refine l_iload (pc := 526) hF dL_law_526 rfl rfl ?_
  refine l_iconst (pc := 527) hF dL_law_527 (1 : Int32) (by decide) ?_
  refine l_iadd (pc := 528) hF dL_law_528 (nI_p1 i) ?_
  refine l_sld (pc := 529) hF (vp_in_nI (show i + 1 < n by omega) (by omega)) dL_law_529 ?_
  refine l_callV (pc := 530) (As := [.int (xs (nI (i + 1)).toNatClampNeg)]) (st := []) hF (mX0_story (some h) (xs (nI (i + 1)).toNatClampNeg)) cw_X0_story q835 q836 hh rfl q837 rfl ⟨Nat.le_of_ble_eq_true rfl, Nat.le_of_ble_eq_true rfl⟩ ⟨trivial, Nat.le_of_ble_eq_true rfl⟩ dL_law_530 rfl h1 (by omega) (by omega) ?_
  refine l_aload (pc := 533) hF dL_law_533 rfl rfl ?_
  refine l_aload (pc := 534) hF dL_law_534 rfl rfl ?_
  refine l_iload (pc := 535) hF dL_law_535 rfl rfl ?_
  refine l_iconst (pc := 536) hF dL_law_536 (1 : Int32) (by decide) ?_
  refine l_iadd (pc := 537) hF dL_law_537 (nI_p1 i) ?_
  refine l_sld (pc := 538) hF (vp_in_nI (show i + 1 < n by omega) (by omega)) dL_law_538 ?_
  refine LW.swap ?_
  refine l_callV (pc := 539) (As := [.int (xs (nI (i + 1)).toNatClampNeg)]) (st := [.int r]) hF (mX1_story (some m) (xs (nI (i + 1)).toNatClampNeg)) cw_X1_story q1222 q1223 hmm rfl q1224 rfl ⟨Nat.le_of_ble_eq_true rfl, Nat.le_of_ble_eq_true rfl⟩ ⟨⟨rfl, trivial⟩, Nat.le_of_ble_eq_true rfl⟩ dL_law_539 rfl h2 (by omega) (by omega) ?_
  refine LW.swap ?_
  refine l_same (pc := 542) hF 854 dL_law_542 rfl ?_
  exact kk Mc' Mm' _ _ _ hJ' (by omega) (by omega)
set_option maxHeartbeats 4000000 in
theorem law_c13 {X : LCx} {n i h m z cells slots : Nat} {xs : Nat → Int32} {Mc Mm : Mp} {J : Mp → Mp → Prop} (hF : LF X n xs) (hi : i + 7 ≤ n) (hn : n ≤ 448) (hJ : J Mc Mm) (hJh : ∀ Mc Mm, J Mc Mm → (∃ fs, Mc h = some (.inr (0, fs))) ∧ (∃ fs, Mm m = some (.inr (1, fs)))) (op : ∀ (a0 : Int32), OpOk J (fX0_takenBy (some h) a0) (fX1_takenBy (some m) a0))
    (hc : cells + 12000 ≤ 837981) (hs : slots + 90000 ≤ 6588305) (kk : ∀ Mc' Mm' z' c' s', J Mc' Mm' → c' ≤ cells + 12000 → s' ≤ slots + 90000 → LW X 854 [some (.ref (bOf X)), some (.ref h), some (.ref m), some (.int (nI i))] [] Mc' Mm' z' c' s') : LW X 547 [some (.ref (bOf X)), some (.ref h), some (.ref m), some (.int (nI i))] [] Mc Mm z cells slots := by
  refine LW.fresh fun hfr => ?_
  obtain ⟨r, Mc', dc, ds, Mm', h1, hdc, hds, h2, hJ'⟩ := op (xs (nI (i + 1)).toNatClampNeg) Mc Mm z hJ hfr
  obtain ⟨⟨fs0, hh⟩, -⟩ := hJh Mc Mm hJ
  obtain ⟨-, ⟨fs1, hmm⟩⟩ := hJh Mc Mm hJ
  refine l_aload (pc := 547) hF dL_law_547 rfl rfl ?_
  refine l_aload (pc := 548) hF dL_law_548 rfl rfl ?_
  refine l_iload (pc := 549) hF dL_law_549 rfl rfl ?_
  refine l_iconst (pc := 550) hF dL_law_550 (1 : Int32) (by decide) ?_
  refine l_iadd (pc := 551) hF dL_law_551 (nI_p1 i) ?_
  refine l_sld (pc := 552) hF (vp_in_nI (show i + 1 < n by omega) (by omega)) dL_law_552 ?_
  refine l_callV (pc := 553) (As := [.int (xs (nI (i + 1)).toNatClampNeg)]) (st := []) hF (mX0_takenBy (some h) (xs (nI (i + 1)).toNatClampNeg)) cw_X0_takenBy q839 q840 hh rfl q841 rfl ⟨Nat.le_of_ble_eq_true rfl, Nat.le_of_ble_eq_true rfl⟩ ⟨trivial, Nat.le_of_ble_eq_true rfl⟩ dL_law_553 rfl h1 (by omega) (by omega) ?_
  refine l_aload (pc := 556) hF dL_law_556 rfl rfl ?_
  refine l_aload (pc := 557) hF dL_law_557 rfl rfl ?_
  refine l_iload (pc := 558) hF dL_law_558 rfl rfl ?_
  refine l_iconst (pc := 559) hF dL_law_559 (1 : Int32) (by decide) ?_
  refine l_iadd (pc := 560) hF dL_law_560 (nI_p1 i) ?_
  refine l_sld (pc := 561) hF (vp_in_nI (show i + 1 < n by omega) (by omega)) dL_law_561 ?_
  refine LW.swap ?_
  refine l_callV (pc := 562) (As := [.int (xs (nI (i + 1)).toNatClampNeg)]) (st := [.int r]) hF (mX1_takenBy (some m) (xs (nI (i + 1)).toNatClampNeg)) cw_X1_takenBy q1254 q1255 hmm rfl q1256 rfl ⟨Nat.le_of_ble_eq_true rfl, Nat.le_of_ble_eq_true rfl⟩ ⟨⟨rfl, trivial⟩, Nat.le_of_ble_eq_true rfl⟩ dL_law_562 rfl h2 (by omega) (by omega) ?_
  refine LW.swap ?_
  refine l_same (pc := 565) hF 854 dL_law_565 rfl ?_
  exact kk Mc' Mm' _ _ _ hJ' (by omega) (by omega)
set_option maxHeartbeats 4000000 in
theorem law_c14 {X : LCx} {n i h m z cells slots : Nat} {xs : Nat → Int32} {Mc Mm : Mp} {J : Mp → Mp → Prop} (hF : LF X n xs) (hi : i + 7 ≤ n) (hn : n ≤ 448) (hJ : J Mc Mm) (hJh : ∀ Mc Mm, J Mc Mm → (∃ fs, Mc h = some (.inr (0, fs))) ∧ (∃ fs, Mm m = some (.inr (1, fs)))) (op : ∀ (a0 a1 : Int32), OpOk J (fX0_ofStory (some h) a0 a1) (fX1_ofStory (some m) a0 a1))
    (hc : cells + 12000 ≤ 837981) (hs : slots + 90000 ≤ 6588305) (kk : ∀ Mc' Mm' z' c' s', J Mc' Mm' → c' ≤ cells + 12000 → s' ≤ slots + 90000 → LW X 854 [some (.ref (bOf X)), some (.ref h), some (.ref m), some (.int (nI i))] [] Mc' Mm' z' c' s') : LW X 570 [some (.ref (bOf X)), some (.ref h), some (.ref m), some (.int (nI i))] [] Mc Mm z cells slots := by
  refine LW.fresh fun hfr => ?_
  obtain ⟨r, Mc', dc, ds, Mm', h1, hdc, hds, h2, hJ'⟩ := op (xs (nI (i + 1)).toNatClampNeg) (xs (nI (i + 2)).toNatClampNeg) Mc Mm z hJ hfr
  obtain ⟨⟨fs0, hh⟩, -⟩ := hJh Mc Mm hJ
  obtain ⟨-, ⟨fs1, hmm⟩⟩ := hJh Mc Mm hJ
  refine l_aload (pc := 570) hF dL_law_570 rfl rfl ?_
  refine l_aload (pc := 571) hF dL_law_571 rfl rfl ?_
  refine l_iload (pc := 572) hF dL_law_572 rfl rfl ?_
  refine l_iconst (pc := 573) hF dL_law_573 (1 : Int32) (by decide) ?_
  refine l_iadd (pc := 574) hF dL_law_574 (nI_p1 i) ?_
  refine l_sld (pc := 575) hF (vp_in_nI (show i + 1 < n by omega) (by omega)) dL_law_575 ?_
  refine l_aload (pc := 576) hF dL_law_576 rfl rfl ?_
  refine l_iload (pc := 577) hF dL_law_577 rfl rfl ?_
  refine l_iconst (pc := 578) hF dL_law_578 (2 : Int32) (by decide) ?_
  refine l_iadd (pc := 579) hF dL_law_579 (nI_p2 i) ?_
  refine l_sld (pc := 580) hF (vp_in_nI (show i + 2 < n by omega) (by omega)) dL_law_580 ?_
  refine l_callV (pc := 581) (As := [.int (xs (nI (i + 1)).toNatClampNeg), .int (xs (nI (i + 2)).toNatClampNeg)]) (st := []) hF (mX0_ofStory (some h) (xs (nI (i + 1)).toNatClampNeg) (xs (nI (i + 2)).toNatClampNeg)) cw_X0_ofStory q843 q844 hh rfl q845 rfl ⟨Nat.le_of_ble_eq_true rfl, Nat.le_of_ble_eq_true rfl⟩ ⟨trivial, Nat.le_of_ble_eq_true rfl⟩ dL_law_581 rfl h1 (by omega) (by omega) ?_
  refine l_aload (pc := 584) hF dL_law_584 rfl rfl ?_
  refine l_aload (pc := 585) hF dL_law_585 rfl rfl ?_
  refine l_iload (pc := 586) hF dL_law_586 rfl rfl ?_
  refine l_iconst (pc := 587) hF dL_law_587 (1 : Int32) (by decide) ?_
  refine l_iadd (pc := 588) hF dL_law_588 (nI_p1 i) ?_
  refine l_sld (pc := 589) hF (vp_in_nI (show i + 1 < n by omega) (by omega)) dL_law_589 ?_
  refine l_aload (pc := 590) hF dL_law_590 rfl rfl ?_
  refine l_iload (pc := 591) hF dL_law_591 rfl rfl ?_
  refine l_iconst (pc := 592) hF dL_law_592 (2 : Int32) (by decide) ?_
  refine l_iadd (pc := 593) hF dL_law_593 (nI_p2 i) ?_
  refine l_sld (pc := 594) hF (vp_in_nI (show i + 2 < n by omega) (by omega)) dL_law_594 ?_
  refine LW.swap ?_
  refine l_callV (pc := 595) (As := [.int (xs (nI (i + 1)).toNatClampNeg), .int (xs (nI (i + 2)).toNatClampNeg)]) (st := [.int r]) hF (mX1_ofStory (some m) (xs (nI (i + 1)).toNatClampNeg) (xs (nI (i + 2)).toNatClampNeg)) cw_X1_ofStory q1270 q1271 hmm rfl q1272 rfl ⟨Nat.le_of_ble_eq_true rfl, Nat.le_of_ble_eq_true rfl⟩ ⟨⟨rfl, trivial⟩, Nat.le_of_ble_eq_true rfl⟩ dL_law_595 rfl h2 (by omega) (by omega) ?_
  refine LW.swap ?_
  refine l_same (pc := 598) hF 854 dL_law_598 rfl ?_
  exact kk Mc' Mm' _ _ _ hJ' (by omega) (by omega)
set_option maxHeartbeats 4000000 in
theorem law_c15 {X : LCx} {n i h m z cells slots : Nat} {xs : Nat → Int32} {Mc Mm : Mp} {J : Mp → Mp → Prop} (hF : LF X n xs) (hi : i + 7 ≤ n) (hn : n ≤ 448) (hJ : J Mc Mm) (hJh : ∀ Mc Mm, J Mc Mm → (∃ fs, Mc h = some (.inr (0, fs))) ∧ (∃ fs, Mm m = some (.inr (1, fs)))) (op : ∀ (a0 a1 : Int32), OpOk J (fX0_text (some h) a0 a1) (fX1_text (some m) a0 a1))
    (hc : cells + 12000 ≤ 837981) (hs : slots + 90000 ≤ 6588305) (kk : ∀ Mc' Mm' z' c' s', J Mc' Mm' → c' ≤ cells + 12000 → s' ≤ slots + 90000 → LW X 854 [some (.ref (bOf X)), some (.ref h), some (.ref m), some (.int (nI i))] [] Mc' Mm' z' c' s') : LW X 603 [some (.ref (bOf X)), some (.ref h), some (.ref m), some (.int (nI i))] [] Mc Mm z cells slots := by
  refine LW.fresh fun hfr => ?_
  obtain ⟨r, Mc', dc, ds, Mm', h1, hdc, hds, h2, hJ'⟩ := op (xs (nI (i + 1)).toNatClampNeg) (xs (nI (i + 2)).toNatClampNeg) Mc Mm z hJ hfr
  obtain ⟨⟨fs0, hh⟩, -⟩ := hJh Mc Mm hJ
  obtain ⟨-, ⟨fs1, hmm⟩⟩ := hJh Mc Mm hJ
  refine l_aload (pc := 603) hF dL_law_603 rfl rfl ?_
  refine l_aload (pc := 604) hF dL_law_604 rfl rfl ?_
  refine l_iload (pc := 605) hF dL_law_605 rfl rfl ?_
  refine l_iconst (pc := 606) hF dL_law_606 (1 : Int32) (by decide) ?_
  refine l_iadd (pc := 607) hF dL_law_607 (nI_p1 i) ?_
  refine l_sld (pc := 608) hF (vp_in_nI (show i + 1 < n by omega) (by omega)) dL_law_608 ?_
  refine l_aload (pc := 609) hF dL_law_609 rfl rfl ?_
  refine l_iload (pc := 610) hF dL_law_610 rfl rfl ?_
  refine l_iconst (pc := 611) hF dL_law_611 (2 : Int32) (by decide) ?_
  refine l_iadd (pc := 612) hF dL_law_612 (nI_p2 i) ?_
  refine l_sld (pc := 613) hF (vp_in_nI (show i + 2 < n by omega) (by omega)) dL_law_613 ?_
  refine l_callV (pc := 614) (As := [.int (xs (nI (i + 1)).toNatClampNeg), .int (xs (nI (i + 2)).toNatClampNeg)]) (st := []) hF (mX0_text (some h) (xs (nI (i + 1)).toNatClampNeg) (xs (nI (i + 2)).toNatClampNeg)) cw_X0_text q866 q867 hh rfl q868 rfl ⟨Nat.le_of_ble_eq_true rfl, Nat.le_of_ble_eq_true rfl⟩ ⟨trivial, Nat.le_of_ble_eq_true rfl⟩ dL_law_614 rfl h1 (by omega) (by omega) ?_
  refine l_aload (pc := 617) hF dL_law_617 rfl rfl ?_
  refine l_aload (pc := 618) hF dL_law_618 rfl rfl ?_
  refine l_iload (pc := 619) hF dL_law_619 rfl rfl ?_
  refine l_iconst (pc := 620) hF dL_law_620 (1 : Int32) (by decide) ?_
  refine l_iadd (pc := 621) hF dL_law_621 (nI_p1 i) ?_
  refine l_sld (pc := 622) hF (vp_in_nI (show i + 1 < n by omega) (by omega)) dL_law_622 ?_
  refine l_aload (pc := 623) hF dL_law_623 rfl rfl ?_
  refine l_iload (pc := 624) hF dL_law_624 rfl rfl ?_
  refine l_iconst (pc := 625) hF dL_law_625 (2 : Int32) (by decide) ?_
  refine l_iadd (pc := 626) hF dL_law_626 (nI_p2 i) ?_
  refine l_sld (pc := 627) hF (vp_in_nI (show i + 2 < n by omega) (by omega)) dL_law_627 ?_
  refine LW.swap ?_
  refine l_callV (pc := 628) (As := [.int (xs (nI (i + 1)).toNatClampNeg), .int (xs (nI (i + 2)).toNatClampNeg)]) (st := [.int r]) hF (mX1_text (some m) (xs (nI (i + 1)).toNatClampNeg) (xs (nI (i + 2)).toNatClampNeg)) cw_X1_text q1306 q1307 hmm rfl q1308 rfl ⟨Nat.le_of_ble_eq_true rfl, Nat.le_of_ble_eq_true rfl⟩ ⟨⟨rfl, trivial⟩, Nat.le_of_ble_eq_true rfl⟩ dL_law_628 rfl h2 (by omega) (by omega) ?_
  refine LW.swap ?_
  refine l_same (pc := 631) hF 854 dL_law_631 rfl ?_
  exact kk Mc' Mm' _ _ _ hJ' (by omega) (by omega)
set_option maxHeartbeats 4000000 in
theorem law_c16 {X : LCx} {n i h m z cells slots : Nat} {xs : Nat → Int32} {Mc Mm : Mp} {J : Mp → Mp → Prop} (hF : LF X n xs) (hi : i + 7 ≤ n) (hn : n ≤ 448) (hJ : J Mc Mm) (hJh : ∀ Mc Mm, J Mc Mm → (∃ fs, Mc h = some (.inr (0, fs))) ∧ (∃ fs, Mm m = some (.inr (1, fs)))) (op : ∀ (a0 a1 a2 a3 : Int32), OpOk J (fX0_mark (some h) a0 a1 a2 a3) (fX1_mark (some m) a0 a1 a2 a3))
    (hc : cells + 12000 ≤ 837981) (hs : slots + 90000 ≤ 6588305) (kk : ∀ Mc' Mm' z' c' s', J Mc' Mm' → c' ≤ cells + 12000 → s' ≤ slots + 90000 → LW X 854 [some (.ref (bOf X)), some (.ref h), some (.ref m), some (.int (nI i))] [] Mc' Mm' z' c' s') : LW X 636 [some (.ref (bOf X)), some (.ref h), some (.ref m), some (.int (nI i))] [] Mc Mm z cells slots := by
  refine LW.fresh fun hfr => ?_
  obtain ⟨r, Mc', dc, ds, Mm', h1, hdc, hds, h2, hJ'⟩ := op (xs (nI (i + 1)).toNatClampNeg) (xs (nI (i + 2)).toNatClampNeg) (xs (nI (i + 3)).toNatClampNeg) (xs (nI (i + 4)).toNatClampNeg) Mc Mm z hJ hfr
  obtain ⟨⟨fs0, hh⟩, -⟩ := hJh Mc Mm hJ
  obtain ⟨-, ⟨fs1, hmm⟩⟩ := hJh Mc Mm hJ
  refine l_aload (pc := 636) hF dL_law_636 rfl rfl ?_
  refine l_aload (pc := 637) hF dL_law_637 rfl rfl ?_
  refine l_iload (pc := 638) hF dL_law_638 rfl rfl ?_
  refine l_iconst (pc := 639) hF dL_law_639 (1 : Int32) (by decide) ?_
  refine l_iadd (pc := 640) hF dL_law_640 (nI_p1 i) ?_
  refine l_sld (pc := 641) hF (vp_in_nI (show i + 1 < n by omega) (by omega)) dL_law_641 ?_
  refine l_aload (pc := 642) hF dL_law_642 rfl rfl ?_
  refine l_iload (pc := 643) hF dL_law_643 rfl rfl ?_
  refine l_iconst (pc := 644) hF dL_law_644 (2 : Int32) (by decide) ?_
  refine l_iadd (pc := 645) hF dL_law_645 (nI_p2 i) ?_
  refine l_sld (pc := 646) hF (vp_in_nI (show i + 2 < n by omega) (by omega)) dL_law_646 ?_
  refine l_aload (pc := 647) hF dL_law_647 rfl rfl ?_
  refine l_iload (pc := 648) hF dL_law_648 rfl rfl ?_
  refine l_iconst (pc := 649) hF dL_law_649 (3 : Int32) (by decide) ?_
  refine l_iadd (pc := 650) hF dL_law_650 (nI_p3 i) ?_
  refine l_sld (pc := 651) hF (vp_in_nI (show i + 3 < n by omega) (by omega)) dL_law_651 ?_
  refine l_aload (pc := 652) hF dL_law_652 rfl rfl ?_
  refine l_iload (pc := 653) hF dL_law_653 rfl rfl ?_
  refine l_iconst (pc := 654) hF dL_law_654 (4 : Int32) (by decide) ?_
  refine l_iadd (pc := 655) hF dL_law_655 (nI_p4 i) ?_
  refine l_sld (pc := 656) hF (vp_in_nI (show i + 4 < n by omega) (by omega)) dL_law_656 ?_
  refine l_callV (pc := 657) (As := [.int (xs (nI (i + 1)).toNatClampNeg), .int (xs (nI (i + 2)).toNatClampNeg), .int (xs (nI (i + 3)).toNatClampNeg), .int (xs (nI (i + 4)).toNatClampNeg)]) (st := []) hF (mX0_mark (some h) (xs (nI (i + 1)).toNatClampNeg) (xs (nI (i + 2)).toNatClampNeg) (xs (nI (i + 3)).toNatClampNeg) (xs (nI (i + 4)).toNatClampNeg)) cw_X0_mark q870 q871 hh rfl q872 rfl ⟨Nat.le_of_ble_eq_true rfl, Nat.le_of_ble_eq_true rfl⟩ ⟨trivial, Nat.le_of_ble_eq_true rfl⟩ dL_law_657 rfl h1 (by omega) (by omega) ?_
  refine l_aload (pc := 660) hF dL_law_660 rfl rfl ?_
  refine l_aload (pc := 661) hF dL_law_661 rfl rfl ?_
  refine l_iload (pc := 662) hF dL_law_662 rfl rfl ?_
  refine l_iconst (pc := 663) hF dL_law_663 (1 : Int32) (by decide) ?_
  refine l_iadd (pc := 664) hF dL_law_664 (nI_p1 i) ?_
  refine l_sld (pc := 665) hF (vp_in_nI (show i + 1 < n by omega) (by omega)) dL_law_665 ?_
  refine l_aload (pc := 666) hF dL_law_666 rfl rfl ?_
  refine l_iload (pc := 667) hF dL_law_667 rfl rfl ?_
  refine l_iconst (pc := 668) hF dL_law_668 (2 : Int32) (by decide) ?_
  refine l_iadd (pc := 669) hF dL_law_669 (nI_p2 i) ?_
  refine l_sld (pc := 670) hF (vp_in_nI (show i + 2 < n by omega) (by omega)) dL_law_670 ?_
  refine l_aload (pc := 671) hF dL_law_671 rfl rfl ?_
  refine l_iload (pc := 672) hF dL_law_672 rfl rfl ?_
  refine l_iconst (pc := 673) hF dL_law_673 (3 : Int32) (by decide) ?_
  refine l_iadd (pc := 674) hF dL_law_674 (nI_p3 i) ?_
  refine l_sld (pc := 675) hF (vp_in_nI (show i + 3 < n by omega) (by omega)) dL_law_675 ?_
  refine l_aload (pc := 676) hF dL_law_676 rfl rfl ?_
  refine l_iload (pc := 677) hF dL_law_677 rfl rfl ?_
  refine l_iconst (pc := 678) hF dL_law_678 (4 : Int32) (by decide) ?_
  refine l_iadd (pc := 679) hF dL_law_679 (nI_p4 i) ?_
  refine l_sld (pc := 680) hF (vp_in_nI (show i + 4 < n by omega) (by omega)) dL_law_680 ?_
  refine LW.swap ?_
  refine l_callV (pc := 681) (As := [.int (xs (nI (i + 1)).toNatClampNeg), .int (xs (nI (i + 2)).toNatClampNeg), .int (xs (nI (i + 3)).toNatClampNeg), .int (xs (nI (i + 4)).toNatClampNeg)]) (st := [.int r]) hF (mX1_mark (some m) (xs (nI (i + 1)).toNatClampNeg) (xs (nI (i + 2)).toNatClampNeg) (xs (nI (i + 3)).toNatClampNeg) (xs (nI (i + 4)).toNatClampNeg)) cw_X1_mark q1258 q1259 hmm rfl q1260 rfl ⟨Nat.le_of_ble_eq_true rfl, Nat.le_of_ble_eq_true rfl⟩ ⟨⟨rfl, trivial⟩, Nat.le_of_ble_eq_true rfl⟩ dL_law_681 rfl h2 (by omega) (by omega) ?_
  refine LW.swap ?_
  refine l_same (pc := 684) hF 854 dL_law_684 rfl ?_
  exact kk Mc' Mm' _ _ _ hJ' (by omega) (by omega)
set_option maxHeartbeats 4000000 in
theorem law_c17 {X : LCx} {n i h m z cells slots : Nat} {xs : Nat → Int32} {Mc Mm : Mp} {J : Mp → Mp → Prop} (hF : LF X n xs) (hi : i + 7 ≤ n) (hn : n ≤ 448) (hJ : J Mc Mm) (hJh : ∀ Mc Mm, J Mc Mm → (∃ fs, Mc h = some (.inr (0, fs))) ∧ (∃ fs, Mm m = some (.inr (1, fs)))) (op : ∀ (a0 a1 : Int32), OpOk J (fX0_unmark (some h) a0 a1) (fX1_unmark (some m) a0 a1))
    (hc : cells + 12000 ≤ 837981) (hs : slots + 90000 ≤ 6588305) (kk : ∀ Mc' Mm' z' c' s', J Mc' Mm' → c' ≤ cells + 12000 → s' ≤ slots + 90000 → LW X 854 [some (.ref (bOf X)), some (.ref h), some (.ref m), some (.int (nI i))] [] Mc' Mm' z' c' s') : LW X 689 [some (.ref (bOf X)), some (.ref h), some (.ref m), some (.int (nI i))] [] Mc Mm z cells slots := by
  refine LW.fresh fun hfr => ?_
  obtain ⟨r, Mc', dc, ds, Mm', h1, hdc, hds, h2, hJ'⟩ := op (xs (nI (i + 1)).toNatClampNeg) (xs (nI (i + 2)).toNatClampNeg) Mc Mm z hJ hfr
  obtain ⟨⟨fs0, hh⟩, -⟩ := hJh Mc Mm hJ
  obtain ⟨-, ⟨fs1, hmm⟩⟩ := hJh Mc Mm hJ
  refine l_aload (pc := 689) hF dL_law_689 rfl rfl ?_
  refine l_aload (pc := 690) hF dL_law_690 rfl rfl ?_
  refine l_iload (pc := 691) hF dL_law_691 rfl rfl ?_
  refine l_iconst (pc := 692) hF dL_law_692 (1 : Int32) (by decide) ?_
  refine l_iadd (pc := 693) hF dL_law_693 (nI_p1 i) ?_
  refine l_sld (pc := 694) hF (vp_in_nI (show i + 1 < n by omega) (by omega)) dL_law_694 ?_
  refine l_aload (pc := 695) hF dL_law_695 rfl rfl ?_
  refine l_iload (pc := 696) hF dL_law_696 rfl rfl ?_
  refine l_iconst (pc := 697) hF dL_law_697 (2 : Int32) (by decide) ?_
  refine l_iadd (pc := 698) hF dL_law_698 (nI_p2 i) ?_
  refine l_sld (pc := 699) hF (vp_in_nI (show i + 2 < n by omega) (by omega)) dL_law_699 ?_
  refine l_callV (pc := 700) (As := [.int (xs (nI (i + 1)).toNatClampNeg), .int (xs (nI (i + 2)).toNatClampNeg)]) (st := []) hF (mX0_unmark (some h) (xs (nI (i + 1)).toNatClampNeg) (xs (nI (i + 2)).toNatClampNeg)) cw_X0_unmark q891 q892 hh rfl q893 rfl ⟨Nat.le_of_ble_eq_true rfl, Nat.le_of_ble_eq_true rfl⟩ ⟨trivial, Nat.le_of_ble_eq_true rfl⟩ dL_law_700 rfl h1 (by omega) (by omega) ?_
  refine l_aload (pc := 703) hF dL_law_703 rfl rfl ?_
  refine l_aload (pc := 704) hF dL_law_704 rfl rfl ?_
  refine l_iload (pc := 705) hF dL_law_705 rfl rfl ?_
  refine l_iconst (pc := 706) hF dL_law_706 (1 : Int32) (by decide) ?_
  refine l_iadd (pc := 707) hF dL_law_707 (nI_p1 i) ?_
  refine l_sld (pc := 708) hF (vp_in_nI (show i + 1 < n by omega) (by omega)) dL_law_708 ?_
  refine l_aload (pc := 709) hF dL_law_709 rfl rfl ?_
  refine l_iload (pc := 710) hF dL_law_710 rfl rfl ?_
  refine l_iconst (pc := 711) hF dL_law_711 (2 : Int32) (by decide) ?_
  refine l_iadd (pc := 712) hF dL_law_712 (nI_p2 i) ?_
  refine l_sld (pc := 713) hF (vp_in_nI (show i + 2 < n by omega) (by omega)) dL_law_713 ?_
  refine LW.swap ?_
  refine l_callV (pc := 714) (As := [.int (xs (nI (i + 1)).toNatClampNeg), .int (xs (nI (i + 2)).toNatClampNeg)]) (st := [.int r]) hF (mX1_unmark (some m) (xs (nI (i + 1)).toNatClampNeg) (xs (nI (i + 2)).toNatClampNeg)) cw_X1_unmark q1262 q1263 hmm rfl q1264 rfl ⟨Nat.le_of_ble_eq_true rfl, Nat.le_of_ble_eq_true rfl⟩ ⟨⟨rfl, trivial⟩, Nat.le_of_ble_eq_true rfl⟩ dL_law_714 rfl h2 (by omega) (by omega) ?_
  refine LW.swap ?_
  refine l_same (pc := 717) hF 854 dL_law_717 rfl ?_
  exact kk Mc' Mm' _ _ _ hJ' (by omega) (by omega)
set_option maxHeartbeats 4000000 in
theorem law_c18 {X : LCx} {n i h m z cells slots : Nat} {xs : Nat → Int32} {Mc Mm : Mp} {J : Mp → Mp → Prop} (hF : LF X n xs) (hi : i + 7 ≤ n) (hn : n ≤ 448) (hJ : J Mc Mm) (hJh : ∀ Mc Mm, J Mc Mm → (∃ fs, Mc h = some (.inr (0, fs))) ∧ (∃ fs, Mm m = some (.inr (1, fs)))) (op : ∀ (a0 a1 a2 : Int32), OpOk J (fX0_ofMark (some h) a0 a1 a2) (fX1_ofMark (some m) a0 a1 a2))
    (hc : cells + 12000 ≤ 837981) (hs : slots + 90000 ≤ 6588305) (kk : ∀ Mc' Mm' z' c' s', J Mc' Mm' → c' ≤ cells + 12000 → s' ≤ slots + 90000 → LW X 854 [some (.ref (bOf X)), some (.ref h), some (.ref m), some (.int (nI i))] [] Mc' Mm' z' c' s') : LW X 722 [some (.ref (bOf X)), some (.ref h), some (.ref m), some (.int (nI i))] [] Mc Mm z cells slots := by
  refine LW.fresh fun hfr => ?_
  obtain ⟨r, Mc', dc, ds, Mm', h1, hdc, hds, h2, hJ'⟩ := op (xs (nI (i + 1)).toNatClampNeg) (xs (nI (i + 2)).toNatClampNeg) (xs (nI (i + 3)).toNatClampNeg) Mc Mm z hJ hfr
  obtain ⟨⟨fs0, hh⟩, -⟩ := hJh Mc Mm hJ
  obtain ⟨-, ⟨fs1, hmm⟩⟩ := hJh Mc Mm hJ
  refine l_aload (pc := 722) hF dL_law_722 rfl rfl ?_
  refine l_aload (pc := 723) hF dL_law_723 rfl rfl ?_
  refine l_iload (pc := 724) hF dL_law_724 rfl rfl ?_
  refine l_iconst (pc := 725) hF dL_law_725 (1 : Int32) (by decide) ?_
  refine l_iadd (pc := 726) hF dL_law_726 (nI_p1 i) ?_
  refine l_sld (pc := 727) hF (vp_in_nI (show i + 1 < n by omega) (by omega)) dL_law_727 ?_
  refine l_aload (pc := 728) hF dL_law_728 rfl rfl ?_
  refine l_iload (pc := 729) hF dL_law_729 rfl rfl ?_
  refine l_iconst (pc := 730) hF dL_law_730 (2 : Int32) (by decide) ?_
  refine l_iadd (pc := 731) hF dL_law_731 (nI_p2 i) ?_
  refine l_sld (pc := 732) hF (vp_in_nI (show i + 2 < n by omega) (by omega)) dL_law_732 ?_
  refine l_aload (pc := 733) hF dL_law_733 rfl rfl ?_
  refine l_iload (pc := 734) hF dL_law_734 rfl rfl ?_
  refine l_iconst (pc := 735) hF dL_law_735 (3 : Int32) (by decide) ?_
  refine l_iadd (pc := 736) hF dL_law_736 (nI_p3 i) ?_
  refine l_sld (pc := 737) hF (vp_in_nI (show i + 3 < n by omega) (by omega)) dL_law_737 ?_
  refine l_callV (pc := 738) (As := [.int (xs (nI (i + 1)).toNatClampNeg), .int (xs (nI (i + 2)).toNatClampNeg), .int (xs (nI (i + 3)).toNatClampNeg)]) (st := []) hF (mX0_ofMark (some h) (xs (nI (i + 1)).toNatClampNeg) (xs (nI (i + 2)).toNatClampNeg) (xs (nI (i + 3)).toNatClampNeg)) cw_X0_ofMark q895 q896 hh rfl q897 rfl ⟨Nat.le_of_ble_eq_true rfl, Nat.le_of_ble_eq_true rfl⟩ ⟨trivial, Nat.le_of_ble_eq_true rfl⟩ dL_law_738 rfl h1 (by omega) (by omega) ?_
  refine l_aload (pc := 741) hF dL_law_741 rfl rfl ?_
  refine l_aload (pc := 742) hF dL_law_742 rfl rfl ?_
  refine l_iload (pc := 743) hF dL_law_743 rfl rfl ?_
  refine l_iconst (pc := 744) hF dL_law_744 (1 : Int32) (by decide) ?_
  refine l_iadd (pc := 745) hF dL_law_745 (nI_p1 i) ?_
  refine l_sld (pc := 746) hF (vp_in_nI (show i + 1 < n by omega) (by omega)) dL_law_746 ?_
  refine l_aload (pc := 747) hF dL_law_747 rfl rfl ?_
  refine l_iload (pc := 748) hF dL_law_748 rfl rfl ?_
  refine l_iconst (pc := 749) hF dL_law_749 (2 : Int32) (by decide) ?_
  refine l_iadd (pc := 750) hF dL_law_750 (nI_p2 i) ?_
  refine l_sld (pc := 751) hF (vp_in_nI (show i + 2 < n by omega) (by omega)) dL_law_751 ?_
  refine l_aload (pc := 752) hF dL_law_752 rfl rfl ?_
  refine l_iload (pc := 753) hF dL_law_753 rfl rfl ?_
  refine l_iconst (pc := 754) hF dL_law_754 (3 : Int32) (by decide) ?_
  refine l_iadd (pc := 755) hF dL_law_755 (nI_p3 i) ?_
  refine l_sld (pc := 756) hF (vp_in_nI (show i + 3 < n by omega) (by omega)) dL_law_756 ?_
  refine LW.swap ?_
  refine l_callV (pc := 757) (As := [.int (xs (nI (i + 1)).toNatClampNeg), .int (xs (nI (i + 2)).toNatClampNeg), .int (xs (nI (i + 3)).toNatClampNeg)]) (st := [.int r]) hF (mX1_ofMark (some m) (xs (nI (i + 1)).toNatClampNeg) (xs (nI (i + 2)).toNatClampNeg) (xs (nI (i + 3)).toNatClampNeg)) cw_X1_ofMark q1266 q1267 hmm rfl q1268 rfl ⟨Nat.le_of_ble_eq_true rfl, Nat.le_of_ble_eq_true rfl⟩ ⟨⟨rfl, trivial⟩, Nat.le_of_ble_eq_true rfl⟩ dL_law_757 rfl h2 (by omega) (by omega) ?_
  refine LW.swap ?_
  refine l_same (pc := 760) hF 854 dL_law_760 rfl ?_
  exact kk Mc' Mm' _ _ _ hJ' (by omega) (by omega)
set_option maxHeartbeats 4000000 in
theorem law_c19 {X : LCx} {n i h m z cells slots : Nat} {xs : Nat → Int32} {Mc Mm : Mp} {J : Mp → Mp → Prop} (hF : LF X n xs) (hi : i + 7 ≤ n) (hn : n ≤ 448) (hJ : J Mc Mm) (hJh : ∀ Mc Mm, J Mc Mm → (∃ fs, Mc h = some (.inr (0, fs))) ∧ (∃ fs, Mm m = some (.inr (1, fs)))) (op : ∀ (a0 a1 : Int32), OpOk J (fX0_ofArticle (some h) a0 a1) (fX1_ofArticle (some m) a0 a1))
    (hc : cells + 12000 ≤ 837981) (hs : slots + 90000 ≤ 6588305) (kk : ∀ Mc' Mm' z' c' s', J Mc' Mm' → c' ≤ cells + 12000 → s' ≤ slots + 90000 → LW X 854 [some (.ref (bOf X)), some (.ref h), some (.ref m), some (.int (nI i))] [] Mc' Mm' z' c' s') : LW X 765 [some (.ref (bOf X)), some (.ref h), some (.ref m), some (.int (nI i))] [] Mc Mm z cells slots := by
  refine LW.fresh fun hfr => ?_
  obtain ⟨r, Mc', dc, ds, Mm', h1, hdc, hds, h2, hJ'⟩ := op (xs (nI (i + 1)).toNatClampNeg) (xs (nI (i + 2)).toNatClampNeg) Mc Mm z hJ hfr
  obtain ⟨⟨fs0, hh⟩, -⟩ := hJh Mc Mm hJ
  obtain ⟨-, ⟨fs1, hmm⟩⟩ := hJh Mc Mm hJ
  refine l_aload (pc := 765) hF dL_law_765 rfl rfl ?_
  refine l_aload (pc := 766) hF dL_law_766 rfl rfl ?_
  refine l_iload (pc := 767) hF dL_law_767 rfl rfl ?_
  refine l_iconst (pc := 768) hF dL_law_768 (1 : Int32) (by decide) ?_
  refine l_iadd (pc := 769) hF dL_law_769 (nI_p1 i) ?_
  refine l_sld (pc := 770) hF (vp_in_nI (show i + 1 < n by omega) (by omega)) dL_law_770 ?_
  refine l_aload (pc := 771) hF dL_law_771 rfl rfl ?_
  refine l_iload (pc := 772) hF dL_law_772 rfl rfl ?_
  refine l_iconst (pc := 773) hF dL_law_773 (2 : Int32) (by decide) ?_
  refine l_iadd (pc := 774) hF dL_law_774 (nI_p2 i) ?_
  refine l_sld (pc := 775) hF (vp_in_nI (show i + 2 < n by omega) (by omega)) dL_law_775 ?_
  refine l_callV (pc := 776) (As := [.int (xs (nI (i + 1)).toNatClampNeg), .int (xs (nI (i + 2)).toNatClampNeg)]) (st := []) hF (mX0_ofArticle (some h) (xs (nI (i + 1)).toNatClampNeg) (xs (nI (i + 2)).toNatClampNeg)) cw_X0_ofArticle q899 q900 hh rfl q901 rfl ⟨Nat.le_of_ble_eq_true rfl, Nat.le_of_ble_eq_true rfl⟩ ⟨trivial, Nat.le_of_ble_eq_true rfl⟩ dL_law_776 rfl h1 (by omega) (by omega) ?_
  refine l_aload (pc := 779) hF dL_law_779 rfl rfl ?_
  refine l_aload (pc := 780) hF dL_law_780 rfl rfl ?_
  refine l_iload (pc := 781) hF dL_law_781 rfl rfl ?_
  refine l_iconst (pc := 782) hF dL_law_782 (1 : Int32) (by decide) ?_
  refine l_iadd (pc := 783) hF dL_law_783 (nI_p1 i) ?_
  refine l_sld (pc := 784) hF (vp_in_nI (show i + 1 < n by omega) (by omega)) dL_law_784 ?_
  refine l_aload (pc := 785) hF dL_law_785 rfl rfl ?_
  refine l_iload (pc := 786) hF dL_law_786 rfl rfl ?_
  refine l_iconst (pc := 787) hF dL_law_787 (2 : Int32) (by decide) ?_
  refine l_iadd (pc := 788) hF dL_law_788 (nI_p2 i) ?_
  refine l_sld (pc := 789) hF (vp_in_nI (show i + 2 < n by omega) (by omega)) dL_law_789 ?_
  refine LW.swap ?_
  refine l_callV (pc := 790) (As := [.int (xs (nI (i + 1)).toNatClampNeg), .int (xs (nI (i + 2)).toNatClampNeg)]) (st := [.int r]) hF (mX1_ofArticle (some m) (xs (nI (i + 1)).toNatClampNeg) (xs (nI (i + 2)).toNatClampNeg)) cw_X1_ofArticle q1310 q1311 hmm rfl q1312 rfl ⟨Nat.le_of_ble_eq_true rfl, Nat.le_of_ble_eq_true rfl⟩ ⟨⟨rfl, trivial⟩, Nat.le_of_ble_eq_true rfl⟩ dL_law_790 rfl h2 (by omega) (by omega) ?_
  refine LW.swap ?_
  refine l_same (pc := 793) hF 854 dL_law_793 rfl ?_
  exact kk Mc' Mm' _ _ _ hJ' (by omega) (by omega)
set_option maxHeartbeats 4000000 in
theorem law_c20 {X : LCx} {n i h m z cells slots : Nat} {xs : Nat → Int32} {Mc Mm : Mp} {J : Mp → Mp → Prop} (hF : LF X n xs) (hi : i + 7 ≤ n) (hn : n ≤ 448) (hJ : J Mc Mm) (hJh : ∀ Mc Mm, J Mc Mm → (∃ fs, Mc h = some (.inr (0, fs))) ∧ (∃ fs, Mm m = some (.inr (1, fs)))) (op : ∀ (a0 a1 : Int32), OpOk J (fX0_read (some h) a0 a1) (fX1_read (some m) a0 a1))
    (hc : cells + 12000 ≤ 837981) (hs : slots + 90000 ≤ 6588305) (kk : ∀ Mc' Mm' z' c' s', J Mc' Mm' → c' ≤ cells + 12000 → s' ≤ slots + 90000 → LW X 854 [some (.ref (bOf X)), some (.ref h), some (.ref m), some (.int (nI i))] [] Mc' Mm' z' c' s') : LW X 798 [some (.ref (bOf X)), some (.ref h), some (.ref m), some (.int (nI i))] [] Mc Mm z cells slots := by
  refine LW.fresh fun hfr => ?_
  obtain ⟨r, Mc', dc, ds, Mm', h1, hdc, hds, h2, hJ'⟩ := op (xs (nI (i + 1)).toNatClampNeg) (xs (nI (i + 2)).toNatClampNeg) Mc Mm z hJ hfr
  obtain ⟨⟨fs0, hh⟩, -⟩ := hJh Mc Mm hJ
  obtain ⟨-, ⟨fs1, hmm⟩⟩ := hJh Mc Mm hJ
  refine l_aload (pc := 798) hF dL_law_798 rfl rfl ?_
  refine l_aload (pc := 799) hF dL_law_799 rfl rfl ?_
  refine l_iload (pc := 800) hF dL_law_800 rfl rfl ?_
  refine l_iconst (pc := 801) hF dL_law_801 (1 : Int32) (by decide) ?_
  refine l_iadd (pc := 802) hF dL_law_802 (nI_p1 i) ?_
  refine l_sld (pc := 803) hF (vp_in_nI (show i + 1 < n by omega) (by omega)) dL_law_803 ?_
  refine l_aload (pc := 804) hF dL_law_804 rfl rfl ?_
  refine l_iload (pc := 805) hF dL_law_805 rfl rfl ?_
  refine l_iconst (pc := 806) hF dL_law_806 (2 : Int32) (by decide) ?_
  refine l_iadd (pc := 807) hF dL_law_807 (nI_p2 i) ?_
  refine l_sld (pc := 808) hF (vp_in_nI (show i + 2 < n by omega) (by omega)) dL_law_808 ?_
  refine l_callV (pc := 809) (As := [.int (xs (nI (i + 1)).toNatClampNeg), .int (xs (nI (i + 2)).toNatClampNeg)]) (st := []) hF (mX0_read (some h) (xs (nI (i + 1)).toNatClampNeg) (xs (nI (i + 2)).toNatClampNeg)) cw_X0_read q1012 q1013 hh rfl q1014 rfl ⟨Nat.le_of_ble_eq_true rfl, Nat.le_of_ble_eq_true rfl⟩ ⟨trivial, Nat.le_of_ble_eq_true rfl⟩ dL_law_809 rfl h1 (by omega) (by omega) ?_
  refine l_aload (pc := 812) hF dL_law_812 rfl rfl ?_
  refine l_aload (pc := 813) hF dL_law_813 rfl rfl ?_
  refine l_iload (pc := 814) hF dL_law_814 rfl rfl ?_
  refine l_iconst (pc := 815) hF dL_law_815 (1 : Int32) (by decide) ?_
  refine l_iadd (pc := 816) hF dL_law_816 (nI_p1 i) ?_
  refine l_sld (pc := 817) hF (vp_in_nI (show i + 1 < n by omega) (by omega)) dL_law_817 ?_
  refine l_aload (pc := 818) hF dL_law_818 rfl rfl ?_
  refine l_iload (pc := 819) hF dL_law_819 rfl rfl ?_
  refine l_iconst (pc := 820) hF dL_law_820 (2 : Int32) (by decide) ?_
  refine l_iadd (pc := 821) hF dL_law_821 (nI_p2 i) ?_
  refine l_sld (pc := 822) hF (vp_in_nI (show i + 2 < n by omega) (by omega)) dL_law_822 ?_
  refine LW.swap ?_
  refine l_callV (pc := 823) (As := [.int (xs (nI (i + 1)).toNatClampNeg), .int (xs (nI (i + 2)).toNatClampNeg)]) (st := [.int r]) hF (mX1_read (some m) (xs (nI (i + 1)).toNatClampNeg) (xs (nI (i + 2)).toNatClampNeg)) cw_X1_read q1326 q1327 hmm rfl q1328 rfl ⟨Nat.le_of_ble_eq_true rfl, Nat.le_of_ble_eq_true rfl⟩ ⟨⟨rfl, trivial⟩, Nat.le_of_ble_eq_true rfl⟩ dL_law_823 rfl h2 (by omega) (by omega) ?_
  refine LW.swap ?_
  refine l_same (pc := 826) hF 854 dL_law_826 rfl ?_
  exact kk Mc' Mm' _ _ _ hJ' (by omega) (by omega)
set_option maxHeartbeats 4000000 in
theorem law_c21 {X : LCx} {n i h m z cells slots : Nat} {xs : Nat → Int32} {Mc Mm : Mp} {J : Mp → Mp → Prop} (hF : LF X n xs) (hi : i + 7 ≤ n) (hn : n ≤ 448) (hJ : J Mc Mm) (hJh : ∀ Mc Mm, J Mc Mm → (∃ fs, Mc h = some (.inr (0, fs))) ∧ (∃ fs, Mm m = some (.inr (1, fs)))) (op : ∀ (a0 : Int32), OpOk J (fX0_many (some h) a0) (fX1_many (some m) a0))
    (hc : cells + 12000 ≤ 837981) (hs : slots + 90000 ≤ 6588305) (kk : ∀ Mc' Mm' z' c' s', J Mc' Mm' → c' ≤ cells + 12000 → s' ≤ slots + 90000 → LW X 854 [some (.ref (bOf X)), some (.ref h), some (.ref m), some (.int (nI i))] [] Mc' Mm' z' c' s') : LW X 831 [some (.ref (bOf X)), some (.ref h), some (.ref m), some (.int (nI i))] [] Mc Mm z cells slots := by
  refine LW.fresh fun hfr => ?_
  obtain ⟨r, Mc', dc, ds, Mm', h1, hdc, hds, h2, hJ'⟩ := op (xs (nI (i + 1)).toNatClampNeg) Mc Mm z hJ hfr
  obtain ⟨⟨fs0, hh⟩, -⟩ := hJh Mc Mm hJ
  obtain ⟨-, ⟨fs1, hmm⟩⟩ := hJh Mc Mm hJ
  refine l_aload (pc := 831) hF dL_law_831 rfl rfl ?_
  refine l_aload (pc := 832) hF dL_law_832 rfl rfl ?_
  refine l_iload (pc := 833) hF dL_law_833 rfl rfl ?_
  refine l_iconst (pc := 834) hF dL_law_834 (1 : Int32) (by decide) ?_
  refine l_iadd (pc := 835) hF dL_law_835 (nI_p1 i) ?_
  refine l_sld (pc := 836) hF (vp_in_nI (show i + 1 < n by omega) (by omega)) dL_law_836 ?_
  refine l_callV (pc := 837) (As := [.int (xs (nI (i + 1)).toNatClampNeg)]) (st := []) hF (mX0_many (some h) (xs (nI (i + 1)).toNatClampNeg)) cw_X0_many q1016 q1017 hh rfl q1018 rfl ⟨Nat.le_of_ble_eq_true rfl, Nat.le_of_ble_eq_true rfl⟩ ⟨trivial, Nat.le_of_ble_eq_true rfl⟩ dL_law_837 rfl h1 (by omega) (by omega) ?_
  refine l_aload (pc := 840) hF dL_law_840 rfl rfl ?_
  refine l_aload (pc := 841) hF dL_law_841 rfl rfl ?_
  refine l_iload (pc := 842) hF dL_law_842 rfl rfl ?_
  refine l_iconst (pc := 843) hF dL_law_843 (1 : Int32) (by decide) ?_
  refine l_iadd (pc := 844) hF dL_law_844 (nI_p1 i) ?_
  refine l_sld (pc := 845) hF (vp_in_nI (show i + 1 < n by omega) (by omega)) dL_law_845 ?_
  refine LW.swap ?_
  refine l_callV (pc := 846) (As := [.int (xs (nI (i + 1)).toNatClampNeg)]) (st := [.int r]) hF (mX1_many (some m) (xs (nI (i + 1)).toNatClampNeg)) cw_X1_many q1330 q1331 hmm rfl q1332 rfl ⟨Nat.le_of_ble_eq_true rfl, Nat.le_of_ble_eq_true rfl⟩ ⟨⟨rfl, trivial⟩, Nat.le_of_ble_eq_true rfl⟩ dL_law_846 rfl h2 (by omega) (by omega) ?_
  refine LW.swap ?_
  refine l_same (pc := 849) hF 854 dL_law_849 rfl ?_
  exact kk Mc' Mm' _ _ _ hJ' (by omega) (by omega)
