/-! FETCHING: the guess -/
set_option maxRecDepth 100000
/-- new things, and the returns -/
def Gx (h h' : zH) (p : Nat) : Prop := Ex h h' ∨ ∃ h1 x', Ex h h1 ∧ h' = sR h1 1 1 19 p x'
section KFET2
variable {ic e0 sp p : Nat} {h h' : zH} {A : AS} {bq lq pl el : List Nat}
theorem Gx.k (a : Gx h h' p) {q c s : Nat} (hq : zK h q = (c, s)) (h0 : c ≠ 0) : zK h' q = (c, s) := by
  rcases a with a | ⟨h1, x', a, rfl⟩
  · exact a.k hq h0
  · exact a.k hq h0
theorem Gx.i (a : Gx h h' p) {q c s c' s' k : Nat} (hq : zK h q = (c, s)) (h0 : c ≠ 0) : zI h' c' s' k q = zI h c' s' k q := by
  rcases a with a | ⟨h1, x', a, rfl⟩
  · exact a.i hq h0
  · simp only [gd_true, ult, ubd, ukd, uwr, url, unz, uhI, uhR, uhL, upI, upR, upL, eKI, eKR, eKL, eNI, eNR, eNL, eTI, eTR, eTL, eIR, eIL, eRI, eRL, eLI, eLR, rIw, rRw, rLw, decide_true, decide_false, ne_eq, not_false_eq_true, not_true_eq_false, true_and, and_true, and_false, false_and, and_self, if_true, if_false, reduceIte, Nat.reduceEqDiff, decide_not, Bool.not_true, Bool.not_false]; exact a.i hq h0
theorem Gx.l (a : Gx h h' p) {q c s c' s' k : Nat} (hq : zK h q = (c, s)) (h0 : c ≠ 0) : zL h' c' s' k q = zL h c' s' k q := by
  rcases a with a | ⟨h1, x', a, rfl⟩
  · exact a.l hq h0
  · simp only [gd_true, ult, ubd, ukd, uwr, url, unz, uhI, uhR, uhL, upI, upR, upL, eKI, eKR, eKL, eNI, eNR, eNL, eTI, eTR, eTL, eIR, eIL, eRI, eRL, eLI, eLR, rIw, rRw, rLw, decide_true, decide_false, ne_eq, not_false_eq_true, not_true_eq_false, true_and, and_true, and_false, false_and, and_self, if_true, if_false, reduceIte, Nat.reduceEqDiff, decide_not, Bool.not_true, Bool.not_false]; exact a.l hq h0
theorem Gx.r (a : Gx h h' p) {q c s c' s' k : Nat} (hq : zK h q = (c, s)) (h0 : c ≠ 0) (n1 : c' ≠ 1) : zR h' c' s' k q = zR h c' s' k q := by
  rcases a with a | ⟨h1, x', a, rfl⟩
  · exact a.r hq h0
  · rw [rRw, if_neg (fun z => n1 z.1)]; exact a.r hq h0
theorem Gx.rt (a : Gx h h' p) {q : Nat} {l : List Int32} (w : RT h q l) : RT h' q l := by
  obtain ⟨w1, w2, w3, w4⟩ := w
  refine ⟨a.k w1 (by decide), ?_, w3, fun i hi => by rw [a.i w1 (by decide)]; exact w4 i hi⟩
  rcases a with a | ⟨h1, x', a, rfl⟩
  · rw [a.n w1 (by decide)]; exact w2
  · show zN h1 q = l.length
    rw [a.n w1 (by decide)]; exact w2
theorem k_guess (w : RQ h p ic e0 sp A bq lq pl el) {ins : Nat} {c n : Int32} {m : Nat} (ki : zK h ins = (4, 1)) (hc : zI h 4 1 0 ins = c) (hn : zI h 4 1 4 ins = n) (hm : m < 64) : ∃ h', j_X1_guessFor h p ins (nI m) = some (h', (aGuess A c n (nI m)).1) ∧ RQ h' p ic e0 sp (wRet A (aGuess A c n (nI m)).2) bq lq pl el ∧ Gx h h' p := by
  have hw := rq_wf w
  have self : RQ h p ic e0 sp (wRet A (aRet A)) bq lq pl el := w
  have gx : Gx h h p := Or.inl (Ex.rf hw)
  have i16 : irm (nI m) 16 = nI (m % 16) := irm_nI (k := 16) (by omega) (by decide) (by decide)
  have i8 : irm (nI m) 8 = nI (m % 8) := irm_nI (k := 8) (by omega) (by decide) (by decide)
  obtain ⟨r16, hr16, e16⟩ : ∃ r, r < aln 20 ∧ irm (nI m) 16 = nI r := ⟨m % 16, Nat.mod_lt _ (by decide), i16⟩
  obtain ⟨r8, hr8, e8⟩ : ∃ r, r < aln 21 ∧ irm (nI m) 8 = nI r := ⟨m % 8, Nat.mod_lt _ (by decide), i8⟩
  have x16 : ix (nI r16) = r16 := ix_nI (by have : r16 < 16 := hr16; omega)
  have x8 : ix (nI r8) = r8 := ix_nI (by have : r8 < 8 := hr8; omega)
  obtain ⟨t1, t2, t3⟩ := rk_g2 w.1 20 (by decide)
  obtain ⟨u1, u2', u3⟩ := rk_g2 w.1 21 (by decide)
  have t3' : zI h 201 30 r16 (zR h 1 1 20 p) = aA A 20 r16 := t3 _ hr16
  have u3' : zI h 201 31 r8 (zR h 1 1 21 p) = aA A 21 r8 := u3 _ hr8
  have l2 : (aA A 20 r16 < 2) = ¬ (2 ≤ aA A 20 r16) := propext Int32.not_le.symm
  have cnd : (c = 12 ∨ c = 13) → ∃ h', j_X1_guessFor h p ins (nI m) = some (h', (aGuess A c n (nI m)).1) ∧ RQ h' p ic e0 sp (wRet A (aGuess A c n (nI m)).2) bq lq pl el ∧ Gx h h' p := fun hcc => by
    have ev : aGuess A c n (nI m) = (if 2 ≤ aA A 20 r16 then n else nI m + 1, aRet A) := by
      unfold aGuess
      rw [if_pos hcc]
      simp only [e16, x16]
    rw [ev]
    refine ⟨h, ?_, self, gx⟩
    by_cases d : 2 ≤ aA A 20 r16
    · show _ = some (h, if 2 ≤ aA A 20 r16 then n else nI m + 1)
      rw [if_pos d]
      rcases hcc with e | e
      · simp only [j_X1_guessFor, j_X1_guessFor_j69, gd_true, ult, ubd, ukd, uwr, url, unz, uhI, uhR, uhL, upI, upR, upL, eKI, eKR, eKL, eNI, eNR, eNL, eTI, eTR, eTL, eIR, eIL, eRI, eRL, eLI, eLR, rIw, rRw, rLw, decide_true, decide_false, ne_eq, not_false_eq_true, not_true_eq_false, true_and, and_true, and_false, false_and, and_self, if_true, if_false, reduceIte, Nat.reduceEqDiff, decide_not, Bool.not_true, Bool.not_false, ki, hc, hn, e, if_pos rfl, rq_k w, t1, t2, e16, inb_nI hr16 (by decide), x16, t3', l2, if_neg (fun z => z d : ¬ ¬ 2 ≤ aA A 20 r16)]
      · simp only [j_X1_guessFor, j_X1_guessFor_j69, gd_true, ult, ubd, ukd, uwr, url, unz, uhI, uhR, uhL, upI, upR, upL, eKI, eKR, eKL, eNI, eNR, eNL, eTI, eTR, eTL, eIR, eIL, eRI, eRL, eLI, eLR, rIw, rRw, rLw, decide_true, decide_false, ne_eq, not_false_eq_true, not_true_eq_false, true_and, and_true, and_false, false_and, and_self, if_true, if_false, reduceIte, Nat.reduceEqDiff, decide_not, Bool.not_true, Bool.not_false, ki, hc, hn, e, if_neg (by decide : ¬ (13 : Int32) = 12), if_pos rfl, rq_k w, t1, t2, e16, inb_nI hr16 (by decide), x16, t3', l2, if_neg (fun z => z d : ¬ ¬ 2 ≤ aA A 20 r16)]
    · show _ = some (h, if 2 ≤ aA A 20 r16 then n else nI m + 1)
      rw [if_neg d]
      rcases hcc with e | e
      · simp only [j_X1_guessFor, j_X1_guessFor_j69, gd_true, ult, ubd, ukd, uwr, url, unz, uhI, uhR, uhL, upI, upR, upL, eKI, eKR, eKL, eNI, eNR, eNL, eTI, eTR, eTL, eIR, eIL, eRI, eRL, eLI, eLR, rIw, rRw, rLw, decide_true, decide_false, ne_eq, not_false_eq_true, not_true_eq_false, true_and, and_true, and_false, false_and, and_self, if_true, if_false, reduceIte, Nat.reduceEqDiff, decide_not, Bool.not_true, Bool.not_false, ki, hc, hn, e, if_pos rfl, rq_k w, t1, t2, e16, inb_nI hr16 (by decide), x16, t3', l2, if_pos d]
      · simp only [j_X1_guessFor, j_X1_guessFor_j69, gd_true, ult, ubd, ukd, uwr, url, unz, uhI, uhR, uhL, upI, upR, upL, eKI, eKR, eKL, eNI, eNR, eNL, eTI, eTR, eTL, eIR, eIL, eRI, eRL, eLI, eLR, rIw, rRw, rLw, decide_true, decide_false, ne_eq, not_false_eq_true, not_true_eq_false, true_and, and_true, and_false, false_and, and_self, if_true, if_false, reduceIte, Nat.reduceEqDiff, decide_not, Bool.not_true, Bool.not_false, ki, hc, hn, e, if_neg (by decide : ¬ (13 : Int32) = 12), if_pos rfl, rq_k w, t1, t2, e16, inb_nI hr16 (by decide), x16, t3', l2, if_pos d]
  by_cases c1 : c = 12 ∨ c = 13
  · exact cnd c1
  · have n12 : ¬ c = 12 := fun z => c1 (Or.inl z)
    have n13 : ¬ c = 13 := fun z => c1 (Or.inr z)
    unfold aGuess
    rw [if_neg c1]
    by_cases c14 : c = 14
    · rw [if_pos c14]
      refine ⟨h, ?_, self, gx⟩
      simp only [j_X1_guessFor, gd_true, ult, ubd, ukd, uwr, url, unz, uhI, uhR, uhL, upI, upR, upL, eKI, eKR, eKL, eNI, eNR, eNL, eTI, eTR, eTL, eIR, eIL, eRI, eRL, eLI, eLR, rIw, rRw, rLw, decide_true, decide_false, ne_eq, not_false_eq_true, not_true_eq_false, true_and, and_true, and_false, false_and, and_self, if_true, if_false, reduceIte, Nat.reduceEqDiff, decide_not, Bool.not_true, Bool.not_false, ki, hc, hn, if_neg n12, if_neg n13, if_pos c14]
    · rw [if_neg c14]
      by_cases c15 : c = 15
      · rw [if_pos c15]
        obtain ⟨h1, x', f1, f2, f3⟩ := k_push (x := nI m + 1) w
        have w1 := rq_set11 (rq_ex w f2) f3
        refine ⟨sR h1 1 1 19 p x', ?_, w1, Or.inr ⟨h1, x', f2, rfl⟩⟩
        have ki1 : zK h1 ins = (4, 1) := f2.k ki (by decide)
        have hn1 : zI h1 4 1 4 ins = n := by rw [f2.i ki (by decide)]; exact hn
        simp only [j_X1_guessFor, gd_true, ult, ubd, ukd, uwr, url, unz, uhI, uhR, uhL, upI, upR, upL, eKI, eKR, eKL, eNI, eNR, eNL, eTI, eTR, eTL, eIR, eIL, eRI, eRL, eLI, eLR, rIw, rRw, rLw, decide_true, decide_false, ne_eq, not_false_eq_true, not_true_eq_false, true_and, and_true, and_false, false_and, and_self, if_true, if_false, reduceIte, Nat.reduceEqDiff, decide_not, Bool.not_true, Bool.not_false, ki, hc, if_neg n12, if_neg n13, if_neg c14, if_pos c15, rq_k w, f1, ki1, hn1]
      · rw [if_neg c15]
        by_cases c16 : c = 16
        · rw [if_pos c16]
          by_cases ce : aRet A = []
          · rw [if_pos ce]
            refine ⟨h, ?_, by have := self; rw [ce] at this; exact this, gx⟩
            have hr : RT h (zR h 1 1 19 p) (aRet A) := rk_g11 w.1
            have ia : isA h (zR h 1 1 19 p) = true := isA_of hr.1 (by decide) (by decide)
            have l0 : zN h (zR h 1 1 19 p) = 0 := by rw [hr.2.1, ce]; rfl
            have n0 : nI 0 = 0 := nI_0
            have ep : j_X1_pop h p (nI m + 1) = some (h, nI m + 1) := by
              simp only [j_X1_pop, gd_true, ult, ubd, ukd, uwr, url, unz, uhI, uhR, uhL, upI, upR, upL, eKI, eKR, eKL, eNI, eNR, eNL, eTI, eTR, eTL, eIR, eIL, eRI, eRL, eLI, eLR, rIw, rRw, rLw, decide_true, decide_false, ne_eq, not_false_eq_true, not_true_eq_false, true_and, and_true, and_false, false_and, and_self, if_true, if_false, reduceIte, Nat.reduceEqDiff, decide_not, Bool.not_true, Bool.not_false, rq_k w, ia, l0, n0]
            simp only [j_X1_guessFor, gd_true, ult, ubd, ukd, uwr, url, unz, uhI, uhR, uhL, upI, upR, upL, eKI, eKR, eKL, eNI, eNR, eNL, eTI, eTR, eTL, eIR, eIL, eRI, eRL, eLI, eLR, rIw, rRw, rLw, decide_true, decide_false, ne_eq, not_false_eq_true, not_true_eq_false, true_and, and_true, and_false, false_and, and_self, if_true, if_false, reduceIte, Nat.reduceEqDiff, decide_not, Bool.not_true, Bool.not_false, ki, hc, if_neg n12, if_neg n13, if_neg c14, if_neg c15, if_pos c16, rq_k w, ep]
          · rw [if_neg ce]
            obtain ⟨h1, x', f1, f2, f3⟩ := k_pop (x := nI m + 1) w ce
            have w1 := rq_set11 (rq_ex w f2) f3
            refine ⟨sR h1 1 1 19 p x', ?_, w1, Or.inr ⟨h1, x', f2, rfl⟩⟩
            simp only [j_X1_guessFor, gd_true, ult, ubd, ukd, uwr, url, unz, uhI, uhR, uhL, upI, upR, upL, eKI, eKR, eKL, eNI, eNR, eNL, eTI, eTR, eTL, eIR, eIL, eRI, eRL, eLI, eLR, rIw, rRw, rLw, decide_true, decide_false, ne_eq, not_false_eq_true, not_true_eq_false, true_and, and_true, and_false, false_and, and_self, if_true, if_false, reduceIte, Nat.reduceEqDiff, decide_not, Bool.not_true, Bool.not_false, ki, hc, if_neg n12, if_neg n13, if_neg c14, if_neg c15, if_pos c16, rq_k w, f1]
        · rw [if_neg c16]
          by_cases c17 : c = 17
          · rw [if_pos c17]
            simp only [e8, x8]
            refine ⟨h, ?_, self, gx⟩
            by_cases d : aA A 21 r8 = -1
            · simp only [j_X1_guessFor, j_X1_guessFor_j114, gd_true, ult, ubd, ukd, uwr, url, unz, uhI, uhR, uhL, upI, upR, upL, eKI, eKR, eKL, eNI, eNR, eNL, eTI, eTR, eTL, eIR, eIL, eRI, eRL, eLI, eLR, rIw, rRw, rLw, decide_true, decide_false, ne_eq, not_false_eq_true, not_true_eq_false, true_and, and_true, and_false, false_and, and_self, if_true, if_false, reduceIte, Nat.reduceEqDiff, decide_not, Bool.not_true, Bool.not_false, ki, hc, if_neg n12, if_neg n13, if_neg c14, if_neg c15, if_neg c16, if_pos c17, rq_k w, u1, u2', e8, inb_nI hr8 (by decide), x8, u3', if_pos d]
            · simp only [j_X1_guessFor, j_X1_guessFor_j114, gd_true, ult, ubd, ukd, uwr, url, unz, uhI, uhR, uhL, upI, upR, upL, eKI, eKR, eKL, eNI, eNR, eNL, eTI, eTR, eTL, eIR, eIL, eRI, eRL, eLI, eLR, rIw, rRw, rLw, decide_true, decide_false, ne_eq, not_false_eq_true, not_true_eq_false, true_and, and_true, and_false, false_and, and_self, if_true, if_false, reduceIte, Nat.reduceEqDiff, decide_not, Bool.not_true, Bool.not_false, ki, hc, if_neg n12, if_neg n13, if_neg c14, if_neg c15, if_neg c16, if_pos c17, rq_k w, u1, u2', e8, inb_nI hr8 (by decide), x8, u3', if_neg d]
          · rw [if_neg c17]
            refine ⟨h, ?_, self, gx⟩
            simp only [j_X1_guessFor, gd_true, ult, ubd, ukd, uwr, url, unz, uhI, uhR, uhL, upI, upR, upL, eKI, eKR, eKL, eNI, eNR, eNL, eTI, eTR, eTL, eIR, eIL, eRI, eRL, eLI, eLR, rIw, rRw, rLw, decide_true, decide_false, ne_eq, not_false_eq_true, not_true_eq_false, true_and, and_true, and_false, false_and, and_self, if_true, if_false, reduceIte, Nat.reduceEqDiff, decide_not, Bool.not_true, Bool.not_false, ki, hc, if_neg n12, if_neg n13, if_neg c14, if_neg c15, if_neg c16, if_neg c17]
end KFET2
