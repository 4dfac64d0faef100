set_option maxRecDepth 100000
def OpsOk (J : Mp → Mp → Prop) (h m : Nat) : Prop := (∀ Mc Mm, J Mc Mm → (∃ fs, Mc h = some (.inr (0, fs))) ∧ (∃ fs, Mm m = some (.inr (1, fs)))) ∧
  (∀ (a0 a1 a2 a3 a4 a5 : Int32), OpOk J (fX0_block (some h) a0 a1 a2 a3 a4 a5) (fX1_block (some m) a0 a1 a2 a3 a4 a5)) ∧
  (∀ (a0 a1 : Int32), OpOk J (fX0_words (some h) a0 a1) (fX1_words (some m) a0 a1)) ∧
  (∀ (a0 a1 a2 a3 a4 : Int32), OpOk J (fX0_line (some h) a0 a1 a2 a3 a4) (fX1_line (some m) a0 a1 a2 a3 a4)) ∧
  (OpOk J (fX0_back (some h) ) (fX1_back (some m) )) ∧
  (OpOk J (fX0_erase (some h) ) (fX1_erase (some m) )) ∧
  (OpOk J (fX0_clear (some h) ) (fX1_clear (some m) )) ∧
  (OpOk J (fX0_turn (some h) ) (fX1_turn (some m) )) ∧
  (∀ (a0 a1 : Int32), OpOk J (fX0_ofBlock (some h) a0 a1) (fX1_ofBlock (some m) a0 a1)) ∧
  (∀ (a0 a1 : Int32), OpOk J (fX0_ofLine (some h) a0 a1) (fX1_ofLine (some m) a0 a1)) ∧
  (∀ (a0 a1 a2 : Int32), OpOk J (fX0_at (some h) a0 a1 a2) (fX1_at (some m) a0 a1 a2)) ∧
  (∀ (a0 a1 : Int32), OpOk J (fX0_reach (some h) a0 a1) (fX1_reach (some m) a0 a1)) ∧
  (∀ (a0 : Int32), OpOk J (fX0_under (some h) a0) (fX1_under (some m) a0)) ∧
  (∀ (a0 : Int32), OpOk J (fX0_story (some h) a0) (fX1_story (some m) a0)) ∧
  (∀ (a0 : Int32), OpOk J (fX0_takenBy (some h) a0) (fX1_takenBy (some m) a0)) ∧
  (∀ (a0 a1 : Int32), OpOk J (fX0_ofStory (some h) a0 a1) (fX1_ofStory (some m) a0 a1)) ∧
  (∀ (a0 a1 : Int32), OpOk J (fX0_text (some h) a0 a1) (fX1_text (some m) a0 a1)) ∧
  (∀ (a0 a1 a2 a3 : Int32), OpOk J (fX0_mark (some h) a0 a1 a2 a3) (fX1_mark (some m) a0 a1 a2 a3)) ∧
  (∀ (a0 a1 : Int32), OpOk J (fX0_unmark (some h) a0 a1) (fX1_unmark (some m) a0 a1)) ∧
  (∀ (a0 a1 a2 : Int32), OpOk J (fX0_ofMark (some h) a0 a1 a2) (fX1_ofMark (some m) a0 a1 a2)) ∧
  (∀ (a0 a1 : Int32), OpOk J (fX0_ofArticle (some h) a0 a1) (fX1_ofArticle (some m) a0 a1)) ∧
  (∀ (a0 a1 : Int32), OpOk J (fX0_read (some h) a0 a1) (fX1_read (some m) a0 a1)) ∧
  (∀ (a0 : Int32), OpOk J (fX0_many (some h) a0) (fX1_many (some m) a0))
set_option maxHeartbeats 8000000 in
theorem law_loop {X : LCx} {n h m : Nat} {xs : Nat → Int32} {J : Mp → Mp → Prop} (hF : LF X n xs) (hn : n ≤ 448) (hO : OpsOk J h m) : ∀ (t i : Nat) (Mc Mm : Mp) (z cells slots : Nat), n < i + 7 * t → i ≤ n + 7 → J Mc Mm → cells + 12000 * t ≤ 837981 → slots + 90000 * t ≤ 6588305 → LW X 18 [some (.ref (bOf X)), some (.ref h), some (.ref m), some (.int (nI i))] [] Mc Mm z cells slots := by
  intro t
  induction t with
  | zero =>
    intro i Mc Mm z cells slots ht hin hJ hc hs
    refine l_iload (pc := 18) hF dL_law_18 rfl rfl ?_
    refine l_aload (pc := 19) hF dL_law_19 rfl rfl ?_
    refine l_slen (pc := 20) hF dL_law_20 ?_
    refine l_bipush (pc := 21) hF dL_law_21 (7 : Int32) (by decide) ?_
    refine l_isub (pc := 23) hF dL_law_23 ?_
    refine l_gt (pc := 24) hF 860 dL_law_24 rfl (fun _ => ?_) (fun q => absurd (law_gt (by omega) (by omega) (by omega)) q)
    refine l_iconst (pc := 860) hF dL_law_860 (1 : Int32) (by decide) ?_
    exact l_ret (pc := 861) hF dL_law_861 (by omega) (by omega)
  | succ t ih =>
    intro i Mc Mm z cells slots ht hin hJ hc hs
    refine l_iload (pc := 18) hF dL_law_18 rfl rfl ?_
    refine l_aload (pc := 19) hF dL_law_19 rfl rfl ?_
    refine l_slen (pc := 20) hF dL_law_20 ?_
    refine l_bipush (pc := 21) hF dL_law_21 (7 : Int32) (by decide) ?_
    refine l_isub (pc := 23) hF dL_law_23 ?_
    refine l_gt (pc := 24) hF 860 dL_law_24 rfl (fun _ => ?_) (fun q => ?_)
    · refine l_iconst (pc := 860) hF dL_law_860 (1 : Int32) (by decide) ?_
      exact l_ret (pc := 861) hF dL_law_861 (by omega) (by omega)
    have hi : i + 7 ≤ n := by
      rcases Nat.lt_or_ge n (i + 7) with w | w
      · exact absurd (law_gt w (by omega) (by omega)) q
      · exact w
    have hc1 : cells + 12000 ≤ 837981 := Nat.le_trans (Nat.add_le_add_left (Nat.le_mul_of_pos_right 12000 (Nat.succ_pos t)) cells) hc
    have hs1 : slots + 90000 ≤ 6588305 := Nat.le_trans (Nat.add_le_add_left (Nat.le_mul_of_pos_right 90000 (Nat.succ_pos t)) slots) hs
    have knext : ∀ Mc' Mm' z' c' s', J Mc' Mm' → c' ≤ cells + 12000 → s' ≤ slots + 90000 → LW X 854 [some (.ref (bOf X)), some (.ref h), some (.ref m), some (.int (nI i))] [] Mc' Mm' z' c' s' := by
      intro Mc' Mm' z' c' s' hJ' h1 h2
      refine l_iinc (v := nI (i + 7)) (L9 := [some (.ref (bOf X)), some (.ref h), some (.ref m), some (.int (nI (i + 7)))]) (pc := 854) hF dL_law_854 rfl (nI_p7 i) (by decide) rfl ?_
      refine l_goto (pc := 857) hF 18 dL_law_857 rfl ?_
      exact ih (i + 7) Mc' Mm' z' c' s' (by omega) (by omega) hJ' (by omega) (by omega)
    refine l_aload (pc := 27) hF dL_law_27 rfl rfl ?_
    refine l_iload (pc := 28) hF dL_law_28 rfl rfl ?_
    refine l_sld (pc := 29) hF (vp_in_nI (show i < n by omega) (by omega)) dL_law_29 ?_
    refine l_bipush (pc := 30) hF dL_law_30 (31 : Int32) (by decide) ?_
    refine l_iand (pc := 32) hF dL_law_32 ?_
    refine l_case (pc := 33) hF 0 136 dL_law_33 (by decide) rfl rfl (law_c0 hF hi hn hJ hO.1 hO.2.1 hc1 hs1 knext) (fun q0 => ?_)
    refine l_case (pc := 33) hF 1 211 dL_law_33 (by decide) rfl rfl (law_c1 hF hi hn hJ hO.1 hO.2.2.1 hc1 hs1 knext) (fun q1 => ?_)
    refine l_case (pc := 33) hF 2 244 dL_law_33 (by decide) rfl rfl (law_c2 hF hi hn hJ hO.1 hO.2.2.2.1 hc1 hs1 knext) (fun q2 => ?_)
    refine l_case (pc := 33) hF 3 307 dL_law_33 (by decide) rfl rfl (law_c3 hF hi hn hJ hO.1 hO.2.2.2.2.1 hc1 hs1 knext) (fun q3 => ?_)
    refine l_case (pc := 33) hF 4 320 dL_law_33 (by decide) rfl rfl (law_c4 hF hi hn hJ hO.1 hO.2.2.2.2.2.1 hc1 hs1 knext) (fun q4 => ?_)
    refine l_case (pc := 33) hF 5 333 dL_law_33 (by decide) rfl rfl (law_c5 hF hi hn hJ hO.1 hO.2.2.2.2.2.2.1 hc1 hs1 knext) (fun q5 => ?_)
    refine l_case (pc := 33) hF 6 346 dL_law_33 (by decide) rfl rfl (law_c6 hF hi hn hJ hO.1 hO.2.2.2.2.2.2.2.1 hc1 hs1 knext) (fun q6 => ?_)
    refine l_case (pc := 33) hF 7 359 dL_law_33 (by decide) rfl rfl (law_c7 hF hi hn hJ hO.1 hO.2.2.2.2.2.2.2.2.1 hc1 hs1 knext) (fun q7 => ?_)
    refine l_case (pc := 33) hF 8 392 dL_law_33 (by decide) rfl rfl (law_c8 hF hi hn hJ hO.1 hO.2.2.2.2.2.2.2.2.2.1 hc1 hs1 knext) (fun q8 => ?_)
    refine l_case (pc := 33) hF 9 425 dL_law_33 (by decide) rfl rfl (law_c9 hF hi hn hJ hO.1 hO.2.2.2.2.2.2.2.2.2.2.1 hc1 hs1 knext) (fun q9 => ?_)
    refine l_case (pc := 33) hF 10 468 dL_law_33 (by decide) rfl rfl (law_c10 hF hi hn hJ hO.1 hO.2.2.2.2.2.2.2.2.2.2.2.1 hc1 hs1 knext) (fun q10 => ?_)
    refine l_case (pc := 33) hF 11 501 dL_law_33 (by decide) rfl rfl (law_c11 hF hi hn hJ hO.1 hO.2.2.2.2.2.2.2.2.2.2.2.2.1 hc1 hs1 knext) (fun q11 => ?_)
    refine l_case (pc := 33) hF 12 524 dL_law_33 (by decide) rfl rfl (law_c12 hF hi hn hJ hO.1 hO.2.2.2.2.2.2.2.2.2.2.2.2.2.1 hc1 hs1 knext) (fun q12 => ?_)
    refine l_case (pc := 33) hF 13 547 dL_law_33 (by decide) rfl rfl (law_c13 hF hi hn hJ hO.1 hO.2.2.2.2.2.2.2.2.2.2.2.2.2.2.1 hc1 hs1 knext) (fun q13 => ?_)
    refine l_case (pc := 33) hF 14 570 dL_law_33 (by decide) rfl rfl (law_c14 hF hi hn hJ hO.1 hO.2.2.2.2.2.2.2.2.2.2.2.2.2.2.2.1 hc1 hs1 knext) (fun q14 => ?_)
    refine l_case (pc := 33) hF 15 603 dL_law_33 (by decide) rfl rfl (law_c15 hF hi hn hJ hO.1 hO.2.2.2.2.2.2.2.2.2.2.2.2.2.2.2.2.1 hc1 hs1 knext) (fun q15 => ?_)
    refine l_case (pc := 33) hF 16 636 dL_law_33 (by decide) rfl rfl (law_c16 hF hi hn hJ hO.1 hO.2.2.2.2.2.2.2.2.2.2.2.2.2.2.2.2.2.1 hc1 hs1 knext) (fun q16 => ?_)
    refine l_case (pc := 33) hF 17 689 dL_law_33 (by decide) rfl rfl (law_c17 hF hi hn hJ hO.1 hO.2.2.2.2.2.2.2.2.2.2.2.2.2.2.2.2.2.2.1 hc1 hs1 knext) (fun q17 => ?_)
    refine l_case (pc := 33) hF 18 722 dL_law_33 (by decide) rfl rfl (law_c18 hF hi hn hJ hO.1 hO.2.2.2.2.2.2.2.2.2.2.2.2.2.2.2.2.2.2.2.1 hc1 hs1 knext) (fun q18 => ?_)
    refine l_case (pc := 33) hF 19 765 dL_law_33 (by decide) rfl rfl (law_c19 hF hi hn hJ hO.1 hO.2.2.2.2.2.2.2.2.2.2.2.2.2.2.2.2.2.2.2.2.1 hc1 hs1 knext) (fun q19 => ?_)
    refine l_case (pc := 33) hF 20 798 dL_law_33 (by decide) rfl rfl (law_c20 hF hi hn hJ hO.1 hO.2.2.2.2.2.2.2.2.2.2.2.2.2.2.2.2.2.2.2.2.2.1 hc1 hs1 knext) (fun q20 => ?_)
    refine l_case (pc := 33) hF 21 831 dL_law_33 (by decide) rfl rfl (law_c21 hF hi hn hJ hO.1 hO.2.2.2.2.2.2.2.2.2.2.2.2.2.2.2.2.2.2.2.2.2.2 hc1 hs1 knext) (fun q21 => ?_)
    refine l_dflt (pc := 33) hF 854 dL_law_33 (by
      have := lv_neT (a := 0) q0 rfl
      have := lv_neT (a := 1) q1 rfl
      have := lv_neT (a := 2) q2 rfl
      have := lv_neT (a := 3) q3 rfl
      have := lv_neT (a := 4) q4 rfl
      have := lv_neT (a := 5) q5 rfl
      have := lv_neT (a := 6) q6 rfl
      have := lv_neT (a := 7) q7 rfl
      have := lv_neT (a := 8) q8 rfl
      have := lv_neT (a := 9) q9 rfl
      have := lv_neT (a := 10) q10 rfl
      have := lv_neT (a := 11) q11 rfl
      have := lv_neT (a := 12) q12 rfl
      have := lv_neT (a := 13) q13 rfl
      have := lv_neT (a := 14) q14 rfl
      have := lv_neT (a := 15) q15 rfl
      have := lv_neT (a := 16) q16 rfl
      have := lv_neT (a := 17) q17 rfl
      have := lv_neT (a := 18) q18 rfl
      have := lv_neT (a := 19) q19 rfl
      have := lv_neT (a := 20) q20 rfl
      have := lv_neT (a := 21) q21 rfl
      omega) rfl ?_
    exact knext Mc Mm _ _ _ hJ (by omega) (by omega)
