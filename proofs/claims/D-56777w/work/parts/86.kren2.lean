/-! RENAMING: one, all -/
set_option maxRecDepth 100000
def fRn (f0 : FL) (A0 : AS) : FL :=
  let f := uF (uF (uF f0 7 (aS A0 26)) 10 (aA A0 11 (ix (iK A0 2 f0)))) 11 (aA A0 11 (ix (iK A0 3 f0)))
  if cRes (cd A0 f0) then uF (uF f 13 (aA A0 11 (ix (iK A0 1 f0)))) 12 ((aFree A0).headD 0) else f
def aRn1 (f0 : FL) (A0 : AS) : AS := if cRes (cd A0 f0) then wA (wA (wFree A0 (aFree A0).tail) 10 (ix ((aFree A0).headD 0)) 0) 11 (ix (iK A0 1 f0)) ((aFree A0).headD 0) else A0
theorem fRn_o {f : FL} {A : AS} : (∀ j, j ≠ 7 → j ≠ 10 → j ≠ 11 → j ≠ 12 → j ≠ 13 → (fRn f A).1 j = f.1 j) ∧ (¬ cRes (cd A f) → (fRn f A).1 12 = f.1 12 ∧ (fRn f A).1 13 = f.1 13) ∧ (cRes (cd A f) → (fRn f A).1 12 = (aFree A).headD 0 ∧ (fRn f A).1 13 = aA A 11 (ix (iK A 1 f))) ∧ (fRn f A).1 10 = aA A 11 (ix (iK A 2 f)) ∧ (fRn f A).1 11 = aA A 11 (ix (iK A 3 f)) := by
  unfold fRn
  dsimp only
  by_cases c : cRes (cd A f)
  · rw [if_pos c]
    refine ⟨fun j h1 h2 h3 h4 h5 => ?_, fun z => absurd c z, fun _ => ⟨?_, ?_⟩, ?_, ?_⟩
    · rw [uF_ne h4, uF_ne h5, uF_ne h3, uF_ne h2, uF_ne h1]
    · rw [uF_at]
    · rw [uF_ne (by decide), uF_at]
    · rw [uF_ne (by decide), uF_ne (by decide), uF_ne (by decide), uF_at]
    · rw [uF_ne (by decide), uF_ne (by decide), uF_at]
  · rw [if_neg c]
    refine ⟨fun j h1 h2 h3 h4 h5 => ?_, fun _ => ⟨?_, ?_⟩, fun z => absurd z c, ?_, ?_⟩
    · rw [uF_ne h3, uF_ne h2, uF_ne h1]
    · rw [uF_ne (by decide), uF_ne (by decide), uF_ne (by decide)]
    · rw [uF_ne (by decide), uF_ne (by decide), uF_ne (by decide)]
    · rw [uF_ne (by decide), uF_at]
    · rw [uF_at]
theorem aRn1_o {f : FL} {A : AS} : aBuf (aRn1 f A) = aBuf A ∧ aS (aRn1 f A) = aS A ∧ (∀ k, aA (aRn1 f A) (50 + k) = aA A (50 + k)) ∧ aLine (aRn1 f A) = aLine A := by
  unfold aRn1
  split
  · refine ⟨rfl, rfl, fun k => ?_, rfl⟩
    show u2 (u2 (aA A) 10 _ 0) 11 _ _ (50 + k) = _
    rw [u2_k (by omega), u2_k (by omega)]
  · exact ⟨rfl, rfl, fun _ => rfl, rfl⟩
theorem cd_rn {f : FL} {A : AS} : cd (aRn1 f A) (fRn f A) = cd A f := by
  show aA (aRn1 f A) (50 + 0) (ix ((fRn f A).1 1)) = aA A (50 + 0) (ix (f.1 1))
  rw [aRn1_o.2.2.1, fRn_o.1 1 (by decide) (by decide) (by decide) (by decide) (by decide)]
theorem aRename_eq {f : FL} {A : AS} : aRename f A = aTail (aRn1 f A) (fRn f A) := by
  have e6 := (fRn_o (f := f) (A := A)).1 6 (by decide) (by decide) (by decide) (by decide) (by decide)
  have e1 := (fRn_o (f := f) (A := A)).1 1 (by decide) (by decide) (by decide) (by decide) (by decide)
  unfold aTail
  rw [cd_rn, e6, e1, (aRn1_o (f := f) (A := A)).2.1]
  by_cases c15 : cd A f = 15
  · have cr : cRes (cd A f) := Or.inr c15
    rw [((fRn_o (f := f) (A := A)).2.2.1 cr).1]
    rfl
  · have nr : aRename f A = if cQue (cd A f) then wBuf (aRn1 f A) (aBuf (aRn1 f A) ++ [uF (fRn f A) 14 113]) else if cd A f = 15 then wA (wA (wBuf (aRn1 f A) (aBuf (aRn1 f A) ++ [uF (uF (uF (fRn f A) 14 101) 9 (aS A 26)) 19 (f.1 6)])) 9 (ix ((aFree A).headD 0)) (f.1 1 + 1)) 10 (ix ((aFree A).headD 0)) 1 else wBuf (aRn1 f A) (aBuf (aRn1 f A) ++ [uF (uF (uF (fRn f A) 14 101) 9 (aS A 26)) 19 (f.1 6)]) := rfl
    rw [nr, if_neg c15, if_neg c15]
section KREN2
variable {ic e0 sp p N : Nat}
theorem Lo.ch {h h' : zH} {A A' : AS} {bq lq pl el : List Nat} {q : Nat} {f : FL} {m : List (Nat × Nat)} (l : Lo h p ic e0 sp A bq lq pl el q f) (w : RQ h' p ic e0 sp A' bq lq pl el) (c : Ch m h h') (e : (8, 1) ∉ m ∧ (201, 29) ∉ m ∧ (5, 1) ∉ m) : Lo h' p ic e0 sp A' bq lq pl el q f := by
  obtain ⟨-, fr, n1, n2, n3⟩ := l
  have d : d3 m m m [(8, 1), (201, 29)] [(8, 1)] [(8, 1)] = true := by
    unfold d3 dj
    simp only [Bool.and_eq_true, List.all_eq_true, Bool.not_eq_true', List.contains_eq_mem, List.mem_cons, List.not_mem_nil, or_false, decide_eq_false_iff_not]
    exact ⟨fun x hx z => z.elim (fun y => e.1 (y ▸ hx)) (fun y => e.2.1 (y ▸ hx)), fun x hx y => e.1 (y ▸ hx), fun x hx y => e.1 (y ▸ hx)⟩
  exact ⟨w, fr.keep c.cg d, n1, n2, by rw [c.r e.2.2]; exact n3⟩
theorem k_rename {h : zH} {A : AS} {bq lq pl el : List Nat} {q : Nat} {f : FL} (l : Lo h p ic e0 sp A bq lq pl el q f) (k : KI N A) (hf : lnOk f) (hb : bq.length < 16) (hD : cRes (cd A f) → aFree A ≠ []) : ∃ h', j_X1_rename h p q = some h' ∧ RQ h' p ic e0 sp (aRename f A) (bq ++ [q]) lq pl el := by
  have w := l.1
  have fr := l.2.1
  obtain ⟨ki, kv, pl1, pl2⟩ := fr_ins fr (rk_g10 w.1)
  have hc : zI h 4 1 0 (zR h 8 1 0 q) = cd A f := kv 0 (by decide)
  have pr : f.1 1 = nI (ix (f.1 1)) ∧ ix (f.1 1) < ix (aS A 0) := ⟨pl2, by rw [(rk_g10 w.1).2.2.1, ix_nI (by have := (rk_g10 w.1).2.1; omega)]; exact pl1⟩
  obtain ⟨d1, hd1, ed1⟩ := ki_iK k pr 1 (by decide) (by decide)
  obtain ⟨d2, hd2, ed2⟩ := ki_iK k pr 2 (by decide) (by decide)
  obtain ⟨d3', hd3, ed3⟩ := ki_iK k pr 3 (by decide) (by decide)
  have i1 : zI h 4 1 1 (zR h 8 1 0 q) = nI d1 := (kv 1 (by decide)).trans ed1
  have i2 : zI h 4 1 2 (zR h 8 1 0 q) = nI d2 := (kv 2 (by decide)).trans ed2
  have i3 : zI h 4 1 3 (zR h 8 1 0 q) = nI d3' := (kv 3 (by decide)).trans ed3
  have s26 := rq_s w (k := 26) (by decide)
  obtain ⟨m1, m2, m3⟩ := rk_g2 w.1 11 (by decide)
  have m3a : ∀ j, j < 8 → zI h 201 21 j (zR h 1 1 11 p) = aA A 11 j := m3
  have kS : zK (sI (sI (sI h 8 1 7 q (aS A 26)) 8 1 10 q (aA A 11 d2)) 8 1 11 q (aA A 11 d3')) (zR h 8 1 0 q) = (4, 1) := by simp only [gd_true, ult, ubd, ukd, uwr, url, unz, uhI, uhR, uhL, upI, upR, upL, eKI, eKR, eKL, eNI, eNR, eNL, eTI, eTR, eTL, eIR, eIL, eRI, eRL, eLI, eLR, rIw, rRw, rLw, decide_true, decide_false, ne_eq, not_false_eq_true, not_true_eq_false, true_and, and_true, and_false, false_and, and_self, if_true, if_false, reduceIte, Nat.reduceEqDiff, decide_not, Bool.not_true, Bool.not_false]; exact ki
  have hS : zI (sI (sI (sI h 8 1 7 q (aS A 26)) 8 1 10 q (aA A 11 d2)) 8 1 11 q (aA A 11 d3')) 4 1 0 (zR h 8 1 0 q) = cd A f := by simp only [gd_true, ult, ubd, ukd, uwr, url, unz, uhI, uhR, uhL, upI, upR, upL, eKI, eKR, eKL, eNI, eNR, eNL, eTI, eTR, eTL, eIR, eIL, eRI, eRL, eLI, eLR, rIw, rRw, rLw, decide_true, decide_false, ne_eq, not_false_eq_true, not_true_eq_false, true_and, and_true, and_false, false_and, and_self, if_true, if_false, reduceIte, Nat.reduceEqDiff, decide_not, Bool.not_true, Bool.not_false]; exact hc
  have h14 : (fRn f A).1 14 = 102 := (fRn_o.1 14 (by decide) (by decide) (by decide) (by decide) (by decide)).trans hf.2.2.2.2
  have l1 := ((l.w (k := 7) (v := aS A 26) (by decide) (by decide)).w (k := 10) (v := aA A 11 d2) (by decide) (by decide)).w (k := 11) (v := aA A 11 d3') (by decide) (by decide)
  rw [aRename_eq]
  by_cases c : cRes (cd A f)
  · -- with a result
    have l2 := l1.w (k := 13) (v := aA A 11 d1) (by decide) (by decide)
    obtain ⟨D, t, eD⟩ : ∃ D t, aFree A = D :: t := by
      cases hA : aFree A with
      | nil => exact absurd hA (hD c)
      | cons D t => exact ⟨D, t, rfl⟩
    obtain ⟨g1, g2, a, g3⟩ := rk_g5 l2.1.1
    obtain ⟨Dn, eDn⟩ := g2 D (by rw [eD]; exact List.mem_cons_self)
    have eD' : D = nI (ix D) := eDn
    obtain ⟨n, hn, en⟩ : ∃ n, n < 24 ∧ ix D = n := ⟨ix D, Dn, rfl⟩
    rw [en] at eD'
    rw [eD, List.map_cons] at g3
    obtain ⟨h5, e5, ad5, c5⟩ := ad_removeFirst g3 (by decide) (by simp)
    have bx5 : bx h5 ic = bx _ ic := bx_keep c5.cg (by decide)
    have w5 := rq_set5 (l := t) l2.1 c5 ⟨g1.keep c5 (by decide) (by decide), fun v hv => g2 v (by rw [eD]; exact List.mem_cons_of_mem _ hv), _, by rw [c5.r (by decide), bx5]; exact ad5⟩
    have l5 := l2.ch w5 c5 (by decide)
    have ub := unbox_ok (rk_g5 w5.1).1 (n := n) (by omega)
    have l6 := l5.w (k := 12) (v := nI n) (by decide) (by decide)
    obtain ⟨h7, e7, bs7, c7⟩ := bs_clear (rk_g4 l6.1.1).1 (by decide) hn
    have w7 := rq_clr10 l6.1 c7 bs7
    have l7 := l6.ch w7 c7 (by decide)
    have w8 := rq_wA (k := 11) (j := d1) (v := nI n) w7 (by decide)
    have l8 := l7.ch w8 (Ch.rf.sI (by simp) : Ch [(201, 21)] h7 _) (by decide)
    have kiX : zR h7 8 1 0 q = zR h 8 1 0 q := by rw [c7.r (by decide)]; simp only [gd_true, ult, ubd, ukd, uwr, url, unz, uhI, uhR, uhL, upI, upR, upL, eKI, eKR, eKL, eNI, eNR, eNL, eTI, eTR, eTL, eIR, eIL, eRI, eRL, eLI, eLR, rIw, rRw, rLw, decide_true, decide_false, ne_eq, not_false_eq_true, not_true_eq_false, true_and, and_true, and_false, false_and, and_self, if_true, if_false, reduceIte, Nat.reduceEqDiff, decide_not, Bool.not_true, Bool.not_false]; rw [c5.r (by decide)]; simp only [gd_true, ult, ubd, ukd, uwr, url, unz, uhI, uhR, uhL, upI, upR, upL, eKI, eKR, eKL, eNI, eNR, eNL, eTI, eTR, eTL, eIR, eIL, eRI, eRL, eLI, eLR, rIw, rRw, rLw, decide_true, decide_false, ne_eq, not_false_eq_true, not_true_eq_false, true_and, and_true, and_false, false_and, and_self, if_true, if_false, reduceIte, Nat.reduceEqDiff, decide_not, Bool.not_true, Bool.not_false]
    have fe : uF (uF (uF (uF (uF f 7 (aS A 26)) 10 (aA A 11 d2)) 11 (aA A 11 d3')) 13 (aA A 11 d1)) 12 (nI n) = fRn f A := by
      unfold fRn
      dsimp only
      rw [if_pos c, ed1, ed2, ed3, ix_nI (by omega), ix_nI (by omega), ix_nI (by omega), eD]
      show _ = uF _ 12 D
      rw [← eD']
    have ae : wA (wA (wFree A t) 10 n 0) 11 d1 (nI n) = aRn1 f A := by
      unfold aRn1
      rw [if_pos c, ed1, ix_nI (by omega), eD]
      show _ = wA (wA (wFree A t) 10 (ix D) 0) 11 d1 D
      rw [en, ← eD']
    rw [fe, ae] at l8
    obtain ⟨h', f1, f2⟩ := k_tail l8 h14 hb (fun _ => ⟨n, hn, by rw [(fRn_o.2.2.1 c).1, eD]; exact eD'⟩)
    refine ⟨h', ?_, f2⟩
    have kiX' : zR (sI h7 201 21 d1 (zR h7 1 1 11 p) (nI n)) 8 1 0 q = zR h 8 1 0 q := kiX
    rw [kiX'] at f1
    have kq := l.2.1.1
    have k13 : zK h (zR h 1 1 13 p) = (12, 52) := by have := g3.1; simp only [gd_true, ult, ubd, ukd, uwr, url, unz, uhI, uhR, uhL, upI, upR, upL, eKI, eKR, eKL, eNI, eNR, eNL, eTI, eTR, eTL, eIR, eIL, eRI, eRL, eLI, eLR, rIw, rRw, rLw, decide_true, decide_false, ne_eq, not_false_eq_true, not_true_eq_false, true_and, and_true, and_false, false_and, and_self, if_true, if_false, reduceIte, Nat.reduceEqDiff, decide_not, Bool.not_true, Bool.not_false] at this; exact this
    have x13 : zI h 8 1 12 q = f.1 12 := fr_i fr (by decide)
    have k5q : zK h5 q = (8, 1) := l5.2.1.1
    have e5' : j_J4_removeFirst (sI (sI (sI (sI h 8 1 7 q (aS A 26)) 8 1 10 q (aA A 11 d2)) 8 1 11 q (aA A 11 d3')) 8 1 13 q (aA A 11 d1)) (zR h 1 1 13 p) = some (h5, bx h5 ic n) := by
      have e5a := e5
      simp only [eRI, List.getD_cons_zero] at e5a
      rw [bx5, ← en]
      exact e5a
    have e7' : j_J3_clear (sI h5 8 1 12 q (nI n)) (zR h5 1 1 10 p) (nI n) = some h7 := e7
    have k10 : zK h5 (zR h5 1 1 10 p) = (11, 51) := (rk_g4 w5.1).1.1
    have k7q : zK h7 q = (8, 1) := l7.2.1.1
    have e12 : zI h7 8 1 12 q = nI n := by rw [c7.i (by decide)]; simp [rIw]
    have ki7 : zK h7 (zR h 8 1 0 q) = (4, 1) := c7.k (show zK h5 (zR h 8 1 0 q) = (4, 1) from c5.k (by simp only [gd_true, ult, ubd, ukd, uwr, url, unz, uhI, uhR, uhL, upI, upR, upL, eKI, eKR, eKL, eNI, eNR, eNL, eTI, eTR, eTL, eIR, eIL, eRI, eRL, eLI, eLR, rIw, rRw, rLw, decide_true, decide_false, ne_eq, not_false_eq_true, not_true_eq_false, true_and, and_true, and_false, false_and, and_self, if_true, if_false, reduceIte, Nat.reduceEqDiff, decide_not, Bool.not_true, Bool.not_false]; exact ki) (by decide)) (by decide)
    have i17 : zI h7 4 1 1 (zR h 8 1 0 q) = nI d1 := by
      rw [c7.i (by decide)]
      show zI (sI h5 8 1 12 q (nI n)) 4 1 1 (zR h 8 1 0 q) = _
      rw [rIw, if_neg (by simp), c5.i (by decide)]
      simp only [gd_true, ult, ubd, ukd, uwr, url, unz, uhI, uhR, uhL, upI, upR, upL, eKI, eKR, eKL, eNI, eNR, eNL, eTI, eTR, eTL, eIR, eIL, eRI, eRL, eLI, eLR, rIw, rRw, rLw, decide_true, decide_false, ne_eq, not_false_eq_true, not_true_eq_false, true_and, and_true, and_false, false_and, and_self, if_true, if_false, reduceIte, Nat.reduceEqDiff, decide_not, Bool.not_true, Bool.not_false]
      exact i1
    obtain ⟨y1, y2, -⟩ := rk_g2 w7.1 11 (by decide)
    have y1' : zK h7 (zR h7 1 1 11 p) = (201, 21) := y1
    simp only [j_X1_rename, gd_true, ult, ubd, ukd, uwr, url, unz, uhI, uhR, uhL, upI, upR, upL, eKI, eKR, eKL, eNI, eNR, eNL, eTI, eTR, eTL, eIR, eIL, eRI, eRL, eLI, eLR, rIw, rRw, rLw, decide_true, decide_false, ne_eq, not_false_eq_true, not_true_eq_false, true_and, and_true, and_false, false_and, and_self, if_true, if_false, reduceIte, Nat.reduceEqDiff, decide_not, Bool.not_true, Bool.not_false, fr.1, rq_k w, s26, ki, i1, i2, i3, m1, m2, inb_nI (show d1 < aln 11 from hd1) (by decide), inb_nI (show d2 < aln 11 from hd2) (by decide), inb_nI (show d3' < aln 11 from hd3) (by decide), ix_nI (show d1 < 2 ^ 31 by omega), ix_nI (show d2 < 2 ^ 31 by omega), ix_nI (show d3' < 2 ^ 31 by omega), m3a d1 hd1, m3a d2 hd2, m3a d3' hd3, x4_res kS hS, if01, if_neg (fun z => z c : ¬ ¬ cRes (cd A f)), k13, e5', ub.1, ub.2.2, k5q, rq_k w5, k10, e7', rq_k w7, ki7, k7q, y1, y2, i17, e12, f1]
  · have fe : uF (uF (uF f 7 (aS A 26)) 10 (aA A 11 d2)) 11 (aA A 11 d3') = fRn f A := by
      unfold fRn
      dsimp only
      rw [if_neg c, ed2, ed3, ix_nI (by omega), ix_nI (by omega)]
    have ae : A = aRn1 f A := by unfold aRn1; rw [if_neg c]
    rw [fe] at l1
    have l1' : Lo (sI (sI (sI h 8 1 7 q (aS A 26)) 8 1 10 q (aA A 11 d2)) 8 1 11 q (aA A 11 d3')) p ic e0 sp (aRn1 f A) bq lq pl el q (fRn f A) := by rw [← ae]; exact l1
    obtain ⟨h', f1, f2⟩ := k_tail l1' h14 hb (fun z => absurd (Or.inr (by rw [← z]; exact cd_rn.symm)) c)
    refine ⟨h', ?_, f2⟩
    have f1' : j_X1_rename_j100 (sI (sI (sI h 8 1 7 q (aS A 26)) 8 1 10 q (aA A 11 d2)) 8 1 11 q (aA A 11 d3')) p q (zR h 8 1 0 q) = some h' := by have := f1; simp only [eRI] at this; exact this
    simp only [j_X1_rename, gd_true, ult, ubd, ukd, uwr, url, unz, uhI, uhR, uhL, upI, upR, upL, eKI, eKR, eKL, eNI, eNR, eNL, eTI, eTR, eTL, eIR, eIL, eRI, eRL, eLI, eLR, rIw, rRw, rLw, decide_true, decide_false, ne_eq, not_false_eq_true, not_true_eq_false, true_and, and_true, and_false, false_and, and_self, if_true, if_false, reduceIte, Nat.reduceEqDiff, decide_not, Bool.not_true, Bool.not_false, fr.1, rq_k w, s26, ki, i2, i3, m1, m2, inb_nI (show d2 < aln 11 from hd2) (by decide), inb_nI (show d3' < aln 11 from hd3) (by decide), ix_nI (show d2 < 2 ^ 31 by omega), ix_nI (show d3' < 2 ^ 31 by omega), m3a d2 hd2, m3a d3' hd3, x4_res kS hS, if01, if_pos c, f1']
end KREN2
