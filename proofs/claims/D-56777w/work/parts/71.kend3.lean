/-! ENDALL -/
set_option maxRecDepth 100000
theorem al_init {h : zH} {l e0 r : Nat} (k : zK h l = (10, r)) (hr : r ≠ 0) (hl : l ≠ 0) (hz : zI h 10 r 2 l = 0) (ke : zK h e0 = (205, 0)) (ne : zN h e0 = 0) : ∃ h', j_J2_init h l e0 = some h' ∧ AL h' e0 r l [] ∧ Ch [(10, r)] h h' := by
  refine ⟨sR (sI h 10 r 0 l 0) 10 r 1 l e0, ?_, ⟨k, by simp only [gd_true, ult, ubd, ukd, uwr, url, unz, uhI, uhR, uhL, upI, upR, upL, eKI, eKR, eKL, eNI, eNR, eNL, eTI, eTR, eTL, eIR, eIL, eRI, eRL, eLI, eLR, rIw, rRw, rLw, decide_true, decide_false, ne_eq, not_false_eq_true, not_true_eq_false, true_and, and_true, and_false, false_and, and_self, if_true, if_false, reduceIte, Nat.reduceEqDiff, decide_not, Bool.not_true, Bool.not_false]; exact hz, by decide, ke, ne, Or.inl ⟨by simp only [gd_true, ult, ubd, ukd, uwr, url, unz, uhI, uhR, uhL, upI, upR, upL, eKI, eKR, eKL, eNI, eNR, eNL, eTI, eTR, eTL, eIR, eIL, eRI, eRL, eLI, eLR, rIw, rRw, rLw, decide_true, decide_false, ne_eq, not_false_eq_true, not_true_eq_false, true_and, and_true, and_false, false_and, and_self, if_true, if_false, reduceIte, Nat.reduceEqDiff, decide_not, Bool.not_true, Bool.not_false], rfl⟩⟩, (Ch.rf.sI (by simp)).sR (by simp)⟩
  simp only [j_J2_init, j_J1_initA, j_J0_init, gd_true, ult, ubd, ukd, uwr, url, unz, uhI, uhR, uhL, upI, upR, upL, eKI, eKR, eKL, eNI, eNR, eNL, eTI, eTR, eTL, eIR, eIL, eRI, eRL, eLI, eLR, rIw, rRw, rLw, decide_true, decide_false, ne_eq, not_false_eq_true, not_true_eq_false, true_and, and_true, and_false, false_and, and_self, if_true, if_false, reduceIte, Nat.reduceEqDiff, decide_not, Bool.not_true, Bool.not_false, k, hr, hl]
/-- the handles of those that end now -/
def xsOf (c : Int32) : List Nat → List FL → List Nat
  | q :: qs, f :: fs => if f.1 14 = 120 ∧ f.1 15 = c then q :: xsOf c qs fs else xsOf c qs fs
  | _, _ => []
theorem xsOf_len {c : Int32} : ∀ (qs : List Nat) (fs : List FL), (xsOf c qs fs).length ≤ qs.length
  | [], _ => Nat.le_refl _
  | _ :: _, [] => Nat.zero_le _
  | q :: qs, g :: fs => by
    have ih := xsOf_len (c := c) qs fs
    show (if g.1 14 = 120 ∧ g.1 15 = c then q :: xsOf c qs fs else xsOf c qs fs).length ≤ qs.length + 1
    split
    · exact Nat.succ_le_succ ih
    · exact Nat.le_succ_of_le ih
theorem xsOf_app {c : Int32} : ∀ (a : List Nat) (b : List FL) (qs : List Nat) (fs : List FL), a.length = b.length → xsOf c (a ++ qs) (b ++ fs) = xsOf c a b ++ xsOf c qs fs
  | [], [], qs, fs, _ => by cases qs <;> rfl
  | q :: a, f :: b, qs, fs, h => by
    have ih := xsOf_app (c := c) a b qs fs (by simpa using h)
    show (if f.1 14 = 120 ∧ f.1 15 = c then q :: xsOf c (a ++ qs) (b ++ fs) else xsOf c (a ++ qs) (b ++ fs)) = (if f.1 14 = 120 ∧ f.1 15 = c then q :: xsOf c a b else xsOf c a b) ++ xsOf c qs fs
    rw [ih]
    split <;> rfl
theorem xsOf_mem {c : Int32} : ∀ (qs : List Nat) (fs : List FL) (q : Nat), q ∈ xsOf c qs fs → q ∈ qs
  | [], _, _, h => by simp [xsOf] at h
  | _ :: _, [], _, h => by simp [xsOf] at h
  | q :: qs, g :: fs, x, h => by
    have ih := xsOf_mem (c := c) qs fs x
    have h : x ∈ (if g.1 14 = 120 ∧ g.1 15 = c then q :: xsOf c qs fs else xsOf c qs fs) := h
    split at h
    · rcases List.mem_cons.mp h with e | e
      · rw [e]; exact List.mem_cons_self
      · exact List.mem_cons_of_mem _ (ih e)
    · exact List.mem_cons_of_mem _ (ih h)
theorem take_succ_getD {α : Type} {l : List α} {i : Nat} {d : α} (h : i < l.length) : l.take (i + 1) = l.take i ++ [l.getD i d] := by
  rw [getD_lt h, List.take_succ, List.getElem?_eq_getElem h]; rfl
section KEND3
variable {ic e0 sp cm p : Nat} {A : AS} {bq lq pl el : List Nat}
theorem ending_l {it bl al : Nat} {ns : List Nat} : ∀ (n i : Nat) (h : zH) (lr : Nat), RQ h p ic e0 sp A bq lq pl el → LL h 54 bl bq ns → IT h 54 it bl ns i lr → AL h e0 59 al (xsOf (aS A 26) (bq.take i) ((aBuf A).take i)) → i ≤ bq.length → bq.length < n + i →
    ∃ h', j_X1_ending_l16 n h e0 cm p al it = some (h', al) ∧ RQ h' p ic e0 sp A bq lq pl el ∧ AL h' e0 59 al (xsOf (aS A 26) bq (aBuf A)) ∧ Ch [(10, 59), (205, 59), (16, 54)] h h'
  | 0, i, h, lr, w, wl, v, wa, h1, h2 => by omega
  | n + 1, i, h, lr, w, wl, v, wa, h1, h2 => by
    show ∃ h', j_X1_ending_b16 (j_X1_ending_l16 n) h e0 cm p al it = some (h', al) ∧ _
    have hn := it_hasNext wl v h1
    have hb := rk_lb w.1
    have hl := rq_len w
    by_cases c : i < bq.length
    · rw [if_pos c] at hn
      obtain ⟨h1', e1, wl1, v1, c1⟩ := it_next wl v (by decide) c
      have w1 := rq_its' w c1 (by decide)
      have f := rq_fr w1 c
      have e14 := fr_i f (k := 14) (by decide)
      have e15 := fr_i f (k := 15) (by decide)
      have s26 := rq_s w1 (k := 26) (by decide)
      have wa1 := wa.keep c1 (by decide) (by decide)
      have et : xsOf (aS A 26) (bq.take (i + 1)) ((aBuf A).take (i + 1)) = xsOf (aS A 26) (bq.take i) ((aBuf A).take i) ++ (if (gB A i).1 14 = 120 ∧ (gB A i).1 15 = aS A 26 then [bq.getD i 0] else []) := by
        rw [take_succ_getD (d := 0) c, take_succ_getD (d := FL0) (by omega), xsOf_app _ _ _ _ (by rw [List.length_take, List.length_take]; omega)]
        rfl
      have hx := xsOf_len (c := aS A 26) (bq.take i) ((aBuf A).take i)
      rw [List.length_take] at hx
      have z10 : ¬ (1 : Int32) = 0 := by decide
      by_cases d : (gB A i).1 14 = 120 ∧ (gB A i).1 15 = aS A 26
      · rw [if_pos d] at et
        have ka : zK h1' al = (10, 59) := wa1.1
        obtain ⟨h2', e2, wa2, c2⟩ := al_add (B := 22) (cm := cm) (x := bq.getD i 0) wa1 (rq_wf w1) (by decide) (by omega) (by split <;> omega) (by decide) (oka_of f.1 (by decide))
        have w2 := rq_its' w1 c2 (by decide)
        rw [← et] at wa2
        obtain ⟨h', f1, f2, f3, f4⟩ := ending_l n (i + 1) h2' _ w2 (wl1.keep c2 (by decide) (by decide)) (v1.keep c2 (by decide) (by decide)) wa2 (by omega) (by omega)
        refine ⟨h', ?_, f2, f3, ((c1.sub (by simp)).tr (c2.sub (by simp))).tr f4⟩
        simp only [j_X1_ending_b16, j_X1_ending_j63, hn, e1, gd_true, ult, ubd, ukd, uwr, url, unz, uhI, uhR, uhL, upI, upR, upL, eKI, eKR, eKL, eNI, eNR, eNL, eTI, eTR, eTL, eIR, eIL, eRI, eRL, eLI, eLR, rIw, rRw, rLw, decide_true, decide_false, ne_eq, not_false_eq_true, not_true_eq_false, true_and, and_true, and_false, false_and, and_self, if_true, if_false, reduceIte, Nat.reduceEqDiff, decide_not, Bool.not_true, Bool.not_false, v.1, f.1, e14, e15, rq_k w1, s26, if_pos d.1, if_pos d.2, if_neg z10, ka, e2]
        exact f1
      · rw [if_neg d, List.append_nil] at et
        rw [← et] at wa1
        obtain ⟨h', f1, f2, f3, f4⟩ := ending_l n (i + 1) h1' _ w1 wl1 v1 wa1 (by omega) (by omega)
        refine ⟨h', ?_, f2, f3, (c1.sub (by simp)).tr f4⟩
        simp only [j_X1_ending_b16, j_X1_ending_j63, hn, e1, gd_true, ult, ubd, ukd, uwr, url, unz, uhI, uhR, uhL, upI, upR, upL, eKI, eKR, eKL, eNI, eNR, eNL, eTI, eTR, eTL, eIR, eIL, eRI, eRL, eLI, eLR, rIw, rRw, rLw, decide_true, decide_false, ne_eq, not_false_eq_true, not_true_eq_false, true_and, and_true, and_false, false_and, and_self, if_true, if_false, reduceIte, Nat.reduceEqDiff, decide_not, Bool.not_true, Bool.not_false, v.1, f.1, e14, e15, rq_k w1, s26, if_neg z10]
        by_cases d1 : (gB A i).1 14 = 120
        · rw [if_pos d1, if_neg (fun z => d ⟨d1, z⟩)]; exact f1
        · rw [if_neg d1]; exact f1
    · rw [if_neg c] at hn
      have hi : i = bq.length := by omega
      rw [hi, List.take_length, hl, List.take_length] at wa
      refine ⟨h, ?_, w, wa, Ch.rf⟩
      simp only [j_X1_ending_b16, hn, gd_true, ult, ubd, ukd, uwr, url, unz, uhI, uhR, uhL, upI, upR, upL, eKI, eKR, eKL, eNI, eNR, eNL, eTI, eTR, eTL, eIR, eIL, eRI, eRL, eLI, eLR, rIw, rRw, rLw, decide_true, decide_false, ne_eq, not_false_eq_true, not_true_eq_false, true_and, and_true, and_false, false_and, and_self, if_true, if_false, reduceIte, Nat.reduceEqDiff, decide_not, Bool.not_true, Bool.not_false, v.1]
theorem k_ending {h : zH} (w : RQ h p ic e0 sp A bq lq pl el) : ∃ h' al, j_X1_ending h p e0 cm = some (h', al) ∧ RQ h' p ic e0 sp A bq lq pl el ∧ AL h' e0 59 al (xsOf (aS A 26) bq (aBuf A)) := by
  have hw := rq_wf w
  have c1 : Ch [(10, 59), (205, 59), (16, 54)] h (nw h 10 59 0) := Ch.rf.nw hw (by simp)
  have ae := (rk_g10 w.1).1
  have n0 : ¬ zT h + 1 = 0 := by omega
  have pN : ¬ p = zT h + 1 := wf_ne hw (rq_k w) (by decide)
  obtain ⟨h1, e1, wa, c2⟩ := al_init (h := nw h 10 59 0) (l := zT h + 1) (e0 := e0) (r := 59) nw_Ks (by decide) n0 (by simp [rIn]) (c1.k ae.2.2.2.1 (by decide)) (by rw [c1.n ae.2.2.2.1 (by decide)]; exact ae.2.2.2.2.1)
  have cc : Ch [(10, 59), (205, 59), (16, 54)] h h1 := c1.tr (c2.sub (by simp))
  have w1 := rq_its' w cc (by decide)
  obtain ⟨ns, wl⟩ := rq_buf w1
  have hb := rk_lb w.1
  obtain ⟨h2, it, e2, wl2, v2, c3⟩ := ll_iterator wl (rq_wf w1) (by decide) (by omega)
  have w2 := rq_its' w1 c3 (by decide)
  obtain ⟨h', f1, f2, f3, f4⟩ := ending_l (cm := cm) 17 0 h2 0 w2 wl2 v2 (by rw [List.take_zero, List.take_zero]; exact wa.keep c3 (by decide) (by decide)) (by omega) (by omega)
  refine ⟨h', zT h + 1, ?_, f2, f3⟩
  simp only [j_X1_ending, gd_true, ult, ubd, ukd, uwr, url, unz, uhI, uhR, uhL, upI, upR, upL, eKI, eKR, eKL, eNI, eNR, eNL, eTI, eTR, eTL, eIR, eIL, eRI, eRL, eLI, eLR, rIw, rRw, rLw, decide_true, decide_false, ne_eq, not_false_eq_true, not_true_eq_false, true_and, and_true, and_false, false_and, and_self, if_true, if_false, reduceIte, Nat.reduceEqDiff, decide_not, Bool.not_true, Bool.not_false, n0, e1, rq_k w1, wl.1, e2]
  exact f1
end KEND3
