/-! RETIRING: one, all -/
set_option maxRecDepth 100000
theorem qsOf_tl : ∀ (qs : List Nat) (fs : List FL), qs.length = fs.length → 0 < qs.length → (fs.getD 0 FL0).1 14 ≠ 113 → qsOf qs.tail fs.tail = qsOf qs fs
  | [], _, _, h, _ => absurd h (by decide)
  | q :: t, [], h, _, _ => absurd h (by simp)
  | q :: t, f :: fs, h, _, hf => by
    have hf : ¬ f.1 14 = 113 := hf
    show qsOf t fs = if f.1 14 = 113 then _ else _
    rw [if_neg hf]
theorem tail_getD {α : Type} {l : List α} {i : Nat} {d : α} : l.tail.getD i d = l.getD (i + 1) d := by cases l <;> simp [List.getD]
theorem fq_tl {h : zH} {pl qs : List Nat} {fs : List FL} (w : FQ h pl qs fs) : FQ h pl qs.tail fs.tail := ⟨by rw [List.length_tail, List.length_tail, w.1], fun i hi => by
  rw [List.length_tail] at hi
  rw [tail_getD, tail_getD]
  exact w.2 (i + 1) (by omega)⟩
theorem cd_learn {A : AS} {f : FL} : cd (aLearn f A) f = cd A f := by
  unfold aLearn
  dsimp only
  split
  · rfl
  · split
    · rfl
    · rfl
section KRET4
variable {ic e0 sp cm B p : Nat} {h : zH} {A : AS} {bq lq pl el : List Nat}
theorem k_r4 (w : RQ h p ic e0 sp A bq lq pl el) {q : Nat} {f : FL} (fr : FR h pl q f) (ha : ∃ n, n < 24 ∧ f.1 10 = nI n) (hb : ∃ n, n < 24 ∧ f.1 11 = nI n) : ∃ h', j_X1_retire_j118 h e0 ic cm B p q (zR h 8 1 0 q) = some h' ∧ RQ h' p ic e0 sp (aR4 f A) bq lq pl el := by
  obtain ⟨ki, kv, pl1, pl2⟩ := fr_ins fr (rk_g10 w.1)
  have hc : zI h 4 1 0 (zR h 8 1 0 q) = cd A f := kv 0 (by decide)
  obtain ⟨h1, e1, w1, c1⟩ := k_learn w fr ha hb
  have fr1 := fr.keep c1.cg (by decide)
  have ki1 : zK h1 (zR h 8 1 0 q) = (4, 1) := c1.k ki (by decide)
  have hc1 : zI h1 4 1 0 (zR h 8 1 0 q) = cd A f := by rw [c1.i (by decide)]; exact hc
  have e19 := fr_i fr1 (k := 19) (by decide)
  have w2 := rq_wS (k := 27) (v := f.1 19) w1 (by decide)
  have y1 : b01 1 = true := by decide
  have y0 : b01 0 = true := by decide
  have mo : aR4 f A = if cd A f = 21 then wS (wS (wS (wS (wS (aLearn f A) 27 (f.1 19)) 42 0) 27 (aS (wS (aLearn f A) 27 (f.1 19)) 43)) 17 (aS (wS (aLearn f A) 27 (f.1 19)) 43)) 29 0 else wS (wS (aLearn f A) 27 (f.1 19)) 29 (if cd A f = 18 then 1 else 0) := by
    have ec : cd (wS (aLearn f A) 27 (f.1 19)) f = cd A f := cd_learn
    unfold aR4
    dsimp only
    rw [ec]
    by_cases c : cd A f = 21
    · rw [if_pos c, if_pos c]
      have e2 : cd (wS (wS (wS (wS (aLearn f A) 27 (f.1 19)) 42 0) 27 (aS (wS (aLearn f A) 27 (f.1 19)) 43)) 17 (aS (wS (aLearn f A) 27 (f.1 19)) 43)) f = cd A f := ec
      rw [e2, if_neg (by rw [c]; decide)]
    · rw [if_neg c, if_neg c, ec]
  rw [mo]
  by_cases c : cd A f = 21
  · rw [if_pos c]
    obtain ⟨k2, v2⟩ := rk_g3 w2.1
    have v43 : zI h1 2 1 3 (zR h1 1 1 4 p) = aS (wS (aLearn f A) 27 (f.1 19)) 43 := v2 3 (by decide)
    have k2' : zK h1 (zR h1 1 1 4 p) = (2, 1) := k2
    have w3 := rq_w3 (v := 0) w2 (j := 2) (by decide)
    have w4 := rq_wS (k := 27) (v := aS (wS (aLearn f A) 27 (f.1 19)) 43) w3 (by decide)
    have w5 := rq_wS (k := 17) (v := aS (wS (aLearn f A) 27 (f.1 19)) 43) w4 (by decide)
    have w6 := rq_wS (k := 29) (v := 0) w5 (by decide)
    refine ⟨_, ?_, w6⟩
    have n18 : ¬ cd A f = 18 := by rw [c]; decide
    simp only [j_X1_retire_j118, j_X1_retire_j159, j_X1_retire_j174, j_X2_goBack, gd_true, ult, ubd, ukd, uwr, url, unz, uhI, uhR, uhL, upI, upR, upL, eKI, eKR, eKL, eNI, eNR, eNL, eTI, eTR, eTL, eIR, eIL, eRI, eRL, eLI, eLR, rIw, rRw, rLw, decide_true, decide_false, ne_eq, not_false_eq_true, not_true_eq_false, true_and, and_true, and_false, false_and, and_self, if_true, if_false, reduceIte, Nat.reduceEqDiff, decide_not, Bool.not_true, Bool.not_false, rq_k w, e1, fr1.1, rq_k w1, e19, ki1, hc1, if_pos c, k2', v43, if_neg n18, y0]
  · rw [if_neg c]
    by_cases c2 : cd A f = 18
    · rw [if_pos c2]
      refine ⟨_, ?_, rq_wS (k := 29) (v := 1) w2 (by decide)⟩
      simp only [j_X1_retire_j118, j_X1_retire_j159, j_X1_retire_j174, gd_true, ult, ubd, ukd, uwr, url, unz, uhI, uhR, uhL, upI, upR, upL, eKI, eKR, eKL, eNI, eNR, eNL, eTI, eTR, eTL, eIR, eIL, eRI, eRL, eLI, eLR, rIw, rRw, rLw, decide_true, decide_false, ne_eq, not_false_eq_true, not_true_eq_false, true_and, and_true, and_false, false_and, and_self, if_true, if_false, reduceIte, Nat.reduceEqDiff, decide_not, Bool.not_true, Bool.not_false, rq_k w, e1, fr1.1, rq_k w1, e19, ki1, hc1, if_neg c, if_pos c2, y1]
    · rw [if_neg c2]
      refine ⟨_, ?_, rq_wS (k := 29) (v := 0) w2 (by decide)⟩
      simp only [j_X1_retire_j118, j_X1_retire_j159, j_X1_retire_j174, gd_true, ult, ubd, ukd, uwr, url, unz, uhI, uhR, uhL, upI, upR, upL, eKI, eKR, eKL, eNI, eNR, eNL, eTI, eTR, eTL, eIR, eIL, eRI, eRL, eLI, eLR, rIw, rRw, rLw, decide_true, decide_false, ne_eq, not_false_eq_true, not_true_eq_false, true_and, and_true, and_false, false_and, and_self, if_true, if_false, reduceIte, Nat.reduceEqDiff, decide_not, Bool.not_true, Bool.not_false, rq_k w, e1, fr1.1, rq_k w1, e19, ki1, hc1, if_neg c, if_neg c2, y0]
theorem ad_nI {v : Int32} (h : isAd v) : ∃ m, m < 64 ∧ v = nI m := by
  obtain ⟨j, j1, j2⟩ := nI_of (x := v) (Int32.not_lt.mpr h.1)
  refine ⟨j, ?_, j2⟩
  have := h.2
  rw [j2] at this
  have := (nI_leI (a := j) (b := 63) (by omega) (by decide)).mp this
  omega
theorem k_r3 (w : RQ h p ic e0 sp A bq lq pl el) {q : Nat} {f : FL} (fr : FR h pl q f) (ha : ∃ n, n < 24 ∧ f.1 10 = nI n) (hb : ∃ n, n < 24 ∧ f.1 11 = nI n) (hs : cSto (cd A f) → isAd (f.1 17)) : ∃ h', j_X1_retire_j80 h e0 ic cm B p q (zR h 8 1 0 q) = some h' ∧ RQ h' p ic e0 sp (aR4 f (aR3 f A)) bq lq pl el := by
  obtain ⟨ki, kv, pl1, pl2⟩ := fr_ins fr (rk_g10 w.1)
  have hc : zI h 4 1 0 (zR h 8 1 0 q) = cd A f := kv 0 (by decide)
  unfold aR3
  by_cases d : cSto (cd A f)
  · rw [if_pos d]
    obtain ⟨m, hm, em⟩ := ad_nI (hs d)
    obtain ⟨nb, nb1, nb2⟩ := hb
    obtain ⟨v1, v2, v3⟩ := rq_val w
    obtain ⟨m1, m2, m3⟩ := rk_g2 w.1 3 (by decide)
    have e17 := fr_i fr (k := 17) (by decide)
    have e11 := fr_i fr (k := 11) (by decide)
    have eb : val A (f.1 11) = aA A 9 nb := by unfold val; rw [nb2, ix_nI (by omega)]
    have w1 := rq_wA (k := 3) (j := m) (v := stod (cd A f) (aA A 3 m) (aA A 9 nb)) w (by decide)
    have fr1 : FR (sI h 201 13 m (zR h 1 1 3 p) (stod (cd A f) (aA A 3 m) (aA A 9 nb))) pl q f := fr.keep (Cg.wI : Cg [(201, 13)] [] [] h _) (by decide)
    obtain ⟨h', f1, f2⟩ := k_r4 (cm := cm) (B := B) w1 fr1 ha ⟨nb, nb1, nb2⟩
    refine ⟨h', ?_, ?_⟩
    · have f1' : j_X1_retire_j118 (sI h 201 13 m (zR h 1 1 3 p) (stod (cd A f) (aA A 3 m) (aA A 9 nb))) e0 ic cm B p q (zR h 8 1 0 q) = some h' := f1
      simp only [j_X1_retire_j80, gd_true, ult, ubd, ukd, uwr, url, unz, uhI, uhR, uhL, upI, upR, upL, eKI, eKR, eKL, eNI, eNR, eNL, eTI, eTR, eTL, eIR, eIL, eRI, eRL, eLI, eLR, rIw, rRw, rLw, decide_true, decide_false, ne_eq, not_false_eq_true, not_true_eq_false, true_and, and_true, and_false, false_and, and_self, if_true, if_false, reduceIte, Nat.reduceEqDiff, decide_not, Bool.not_true, Bool.not_false, ki, x4_sto ki hc, if01, if_neg (fun z => z d : ¬ ¬ cSto (cd A f)), rq_k w, fr.1, e17, e11, em, nb2, v1, v2, m1, m2, inb_nI nb1 (by decide), inb_nI (show m < aln 3 from hm) (by decide), ix_nI (show nb < 2 ^ 31 by omega), ix_nI (show m < 2 ^ 31 by omega), v3 nb nb1, m3 m hm, x4_std ki hc, f1']
    · rw [em, ix_nI (by omega), eb]
      exact f2
  · rw [if_neg d]
    obtain ⟨h', f1, f2⟩ := k_r4 (cm := cm) (B := B) w fr ha hb
    refine ⟨h', ?_, f2⟩
    simp only [j_X1_retire_j80, gd_true, ult, ubd, ukd, uwr, url, unz, uhI, uhR, uhL, upI, upR, upL, eKI, eKR, eKL, eNI, eNR, eNL, eTI, eTR, eTL, eIR, eIL, eRI, eRL, eLI, eLR, rIw, rRw, rLw, decide_true, decide_false, ne_eq, not_false_eq_true, not_true_eq_false, true_and, and_true, and_false, false_and, and_self, if_true, if_false, reduceIte, Nat.reduceEqDiff, decide_not, Bool.not_true, Bool.not_false, ki, x4_sto ki hc, if01, if_pos d, f1]
theorem k_retire {N : Nat} (w : RQ h p ic e0 sp A bq lq pl el) (k : KI N A) (hb : 0 < bq.length) (h101 : (gB A 0).1 14 = 101) (h16 : (gB A 0).1 16 = 0) (h0 : 0 ∉ el) (hl : el.length + 1 < 100000) (hB : el.length + (if el.length / 2 ≤ 1 then 1 else el.length / 2) ≤ B) (hB2 : B ≤ 60000000) :
    ∃ h' el', j_X1_retire h p (bq.getD 0 0) e0 ic cm B = some h' ∧ RQ h' p ic e0 sp (aRetire A) bq.tail lq pl el' ∧ 0 ∉ el' ∧ el'.length = el.length + 1 := by
  have hlq := rq_len w
  have fr := rq_fr w hb
  obtain ⟨bf1, bf2, bf3, bf4⟩ := k.b _ (gB_mem (A := A) (i := 0) (by omega))
  obtain ⟨ki, kv, pl1, pl2⟩ := fr_ins fr (rk_g10 w.1)
  obtain ⟨ns, wl⟩ := rq_buf w
  obtain ⟨h1, e1, wl1, c1, -, -⟩ := ll_removeFirst wl (by decide) hb
  have nd := rk_nd w.1
  have hq0 : bq.getD 0 0 ∈ bq := getD_mem hb
  have hq1 : bq.getD 0 0 ∉ bq.tail := by
    have := nd_l w.1
    cases bq with
    | nil => exact absurd hb (by decide)
    | cons a t => exact (List.nodup_cons.mp this).1
  have hq2 : bq.getD 0 0 ∉ lq := nd_lr w.1 hq0
  have w1 : RQ h1 p ic e0 sp (wBuf A (aBuf A).tail) bq.tail lq pl el := by
    refine ⟨rk_set7 w.1 (c1.sub (by simp)) ⟨ns.tail, by rw [c1.r (by decide)]; exact wl1⟩ (fq_tl (rk_fb w.1)) ?_ ?_ ?_, ?_⟩
    · rw [List.nodup_append] at nd ⊢
      exact ⟨(List.tail_sublist _).nodup nd.1, nd.2.1, fun a ha b hb => nd.2.2 a (List.mem_of_mem_tail ha) b hb⟩
    · have := rk_lb w.1
      rw [List.length_tail]; omega
    · exact (rk_gd w.1).imp id fun g x hx => ⟨fun z => (g x hx).1 (List.mem_of_mem_tail z), (g x hx).2⟩
    · show LQ h1 p (qsOf bq.tail (aBuf A).tail)
      rw [qsOf_tl _ _ hlq hb (by show (gB A 0).1 14 ≠ 113; rw [h101]; decide)]
      exact w.2.keep c1.cg (by decide)
  have fr1 := fr.keep c1.cg (by decide)
  obtain ⟨h2, f1, kk, c2, g9, r3, ro⟩ := k_newEnd (cm := cm) (e := aEndOf 0 ((gB A 0).1 1) (aS A 26) (gB A 0)) w1 (k := 0) (pp := (gB A 0).1 1) (c := aS A 26) (q := bq.getD 0 0) rfl rfl rfl (Or.inr ⟨rfl, fr1.1, fr_i fr1 (k := 2) (by decide), fr_i fr1 (k := 7) (by decide), fr_i fr1 (k := 8) (by decide), fr_i fr1 (k := 9) (by decide)⟩) h0 hl hB hB2
  have gd : GD h2 (el ++ [zT h1 + 1]) bq.tail lq := Or.inr fun x hx => by
    rcases List.mem_append.mp hx with z | z
    · rw [ro x z]; exact (rk_gd w1.1).resolve_left h0 x z
    · rw [List.mem_singleton.mp z, r3]; exact ⟨hq1, hq2⟩
  have w2 : RQ h2 p ic e0 sp (aR1 A) bq.tail lq pl (el ++ [zT h1 + 1]) := rq_set9 w1 c2 (Or.inr g9) gd
  have fr2 := fr1.keep c2.cg (by decide)
  have s26a := rq_s w1 (k := 26) (by decide)
  have s26b : zI h1 1 1 26 p = aS A 26 := s26a
  have n0 : nzr (zT h1 + 1) = true := decide_eq_true (by omega)
  have e1h := fr_i fr1 (k := 1) (by decide)
  have ei : j_X5_init (nw h1 5 1 0) (zT h1 + 1) 0 ((gB A 0).1 1) (aS A 26) (bq.getD 0 0) = some (hEnd h1 0 ((gB A 0).1 1) (aS A 26) (bq.getD 0 0)) := hEnd_init
  have kn : zK (nw h1 5 1 0) p = (1, 1) := nw_K (rq_wf w1) (rq_k w1) (by decide)
  have kn8 : zK (nw h1 5 1 0) (bq.getD 0 0) = (8, 1) := nw_K (rq_wf w1) fr1.1 (by decide)
  have e12 := fr_i fr2 (k := 12) (by decide)
  have ek : zR h2 8 1 0 (bq.getD 0 0) = zR h 8 1 0 (bq.getD 0 0) := by rw [c2.r (by decide), c1.r (by decide)]
  have ki2 : zK h2 (zR h 8 1 0 (bq.getD 0 0)) = (4, 1) := c2.k (c1.k ki (by decide)) (by decide)
  have kq2 : zI h2 4 1 1 (zR h 8 1 0 (bq.getD 0 0)) = iK A 1 (gB A 0) := by rw [c2.i (by decide), c1.i (by decide)]; exact kv 1 (by decide)
  have hst : ∀ X : AS, (∀ j, aA X (50 + j) = aA A (50 + j)) → cSto (cd X (gB A 0)) → isAd ((gB A 0).1 17) := fun X hX d => bf4 (by
    have : cd X (gB A 0) = cd A (gB A 0) := by show aA _ (50 + 0) _ = aA A (50 + 0) _; rw [hX]
    rw [← this]; exact d) h101 h16
  by_cases d : (gB A 0).1 12 = -1
  · obtain ⟨h', g1, g2⟩ := k_r3 (cm := cm) (B := B) w2 fr2 bf1.2.1 bf1.2.2.1 (hst _ fun _ => rfl)
    rw [ek] at g1
    refine ⟨h', el ++ [zT h1 + 1], ?_, ?_, by simp [h0], by simp⟩
    · simp only [j_X1_retire, gd_true, ult, ubd, ukd, uwr, url, unz, uhI, uhR, uhL, upI, upR, upL, eKI, eKR, eKL, eNI, eNR, eNL, eTI, eTR, eTL, eIR, eIL, eRI, eRL, eLI, eLR, rIw, rRw, rLw, decide_true, decide_false, ne_eq, not_false_eq_true, not_true_eq_false, true_and, and_true, and_false, false_and, and_self, if_true, if_false, reduceIte, Nat.reduceEqDiff, decide_not, Bool.not_true, Bool.not_false, rIn, rRn, fr.1, rq_k w, rq_k w1, wl.1, e1, kn, kn8, e1h, s26b, n0, ei, kk, f1, fr2.1, e12, if_pos d, g1]
    · rw [aRetire_eq]
      unfold aR2
      rw [if_pos d]
      exact g2
  · obtain ⟨nd1, ndl, nde⟩ := ki_iK k (f := gB A 0) ⟨pl2, by rw [(rk_g10 w.1).2.2.1, ix_nI (by have := (rk_g10 w.1).2.1; omega)]; exact pl1⟩ 1 (by decide) (by decide)
    have m12 := (k.m nd1 ndl).2
    obtain ⟨t1, t2, t3⟩ := rk_g2 w2.1 12 (by decide)
    have t3' : zI h2 201 22 nd1 (zR h2 1 1 12 p) = aA A 12 nd1 := t3 nd1 ndl
    have hfl : (aFree (aR1 A)).length ≤ 15 := by
      have hn := k.n
      have hc := cntD_tl (l := aBuf A) (by omega)
      rw [show (aBuf A).getD 0 FL0 = gB A 0 from rfl, if_neg d] at hc
      show (aFree A).length ≤ 15
      omega
    obtain ⟨h3, x, b1, b2, b3, w3, c3⟩ := k_free w2 m12 hfl
    have fr3 := fr2.keep c3.cg (by decide)
    have w4 := rq_wA (k := 12) (j := nd1) (v := (gB A 0).1 12) w3 (by decide)
    have fr4 : FR (sI h3 201 22 nd1 (zR h3 1 1 12 p) ((gB A 0).1 12)) pl (bq.getD 0 0) (gB A 0) := fr3.keep (Cg.wI : Cg [(201, 22)] [] [] h3 _) (by decide)
    obtain ⟨h', g1, g2⟩ := k_r3 (cm := cm) (B := B) w4 fr4 bf1.2.1 bf1.2.2.1 (hst _ fun j => (show u2 (aA A) 12 nd1 _ (50 + j) = aA A (50 + j) from u2_k (by omega)))
    have ek4 : zR (sI h3 201 22 nd1 (zR h3 1 1 12 p) ((gB A 0).1 12)) 8 1 0 (bq.getD 0 0) = zR h 8 1 0 (bq.getD 0 0) := by
      show zR h3 8 1 0 _ = _
      rw [c3.r (by decide)]; exact ek
    rw [ek4] at g1
    obtain ⟨t1', t2', -⟩ := rk_g2 w3.1 12 (by decide)
    have e12c := fr_i fr3 (k := 12) (by decide)
    have ki3 : zK h3 (zR h 8 1 0 (bq.getD 0 0)) = (4, 1) := c3.k ki2 (by decide)
    have kq3 : zI h3 4 1 1 (zR h 8 1 0 (bq.getD 0 0)) = iK A 1 (gB A 0) := by rw [c3.i (by decide)]; exact kq2
    refine ⟨h', el ++ [zT h1 + 1], ?_, ?_, by simp [h0], by simp⟩
    · simp only [j_X1_retire, gd_true, ult, ubd, ukd, uwr, url, unz, uhI, uhR, uhL, upI, upR, upL, eKI, eKR, eKL, eNI, eNR, eNL, eTI, eTR, eTL, eIR, eIL, eRI, eRL, eLI, eLR, rIw, rRw, rLw, decide_true, decide_false, ne_eq, not_false_eq_true, not_true_eq_false, true_and, and_true, and_false, false_and, and_self, if_true, if_false, reduceIte, Nat.reduceEqDiff, decide_not, Bool.not_true, Bool.not_false, rIn, rRn, fr.1, rq_k w, rq_k w1, wl.1, e1, kn, kn8, e1h, s26b, n0, ei, kk, f1, fr2.1, e12, if_neg d, rq_k w2, ki2, kq2, nde, t1, t2, inb_nI (show nd1 < aln 12 from ndl) (by decide), ix_nI (show nd1 < 2 ^ 31 by omega), t3', b1, b2, b3, rq_k w3, ki3, kq3, fr3.1, t1', t2', e12c, g1]
    · rw [aRetire_eq]
      unfold aR2
      rw [if_neg d]
      have ei2 : iK (aR1 A) 1 (gB A 0) = nI nd1 := nde
      rw [ei2, ix_nI (by omega)]
      exact g2
end KRET4
