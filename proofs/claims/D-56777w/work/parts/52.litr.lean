/-! ITERATORS ARE MADE, AND RUN BACKWARDS -/
set_option maxRecDepth 100000
theorem node_l17 {h : zH} {r l i : Nat} {xs ns : List Nat} (w : LL h r l xs ns) (hi : i < ns.length) : ∀ (n k : Nat), k ≤ i → i < n + k → j_J6_node_l17 n h (nI i) (ns.getD k 0) (nI k) = some (h, ns.getD i 0)
  | 0, k, h1, h2 => by omega
  | n + 1, k, h1, h2 => by
    have hl := w.lt
    have hn := w.len
    show j_J6_node_b17 (j_J6_node_l17 n) h (nI i) (ns.getD k 0) (nI k) = _
    have e : (nI i ≤ nI k) = (i ≤ k) := propext (nI_leI (by omega) (by omega))
    obtain ⟨b1, b0, b2, b3, b4⟩ := w.2.2.2.2.1 k (by omega)
    by_cases c : i ≤ k
    · have : k = i := by omega
      subst this
      simp only [j_J6_node_b17, e, c, if_true]
    · have ih := node_l17 w hi n (k + 1) (by omega) (by omega)
      simp only [j_J6_node_b17, e, c, if_false, gd_true, ult, ubd, ukd, uwr, url, unz, uhI, uhR, uhL, upI, upR, upL, eKI, eKR, eKL, eNI, eNR, eNL, eTI, eTR, eTL, eIR, eIL, eRI, eRL, eLI, eLR, rIw, rRw, rLw, decide_true, decide_false, ne_eq, not_false_eq_true, not_true_eq_false, true_and, and_true, and_false, false_and, and_self, if_true, if_false, reduceIte, Nat.reduceEqDiff, decide_not, Bool.not_true, Bool.not_false, b1, b3]
      rw [← nI_succ]; exact ih
theorem node_l47 {h : zH} {r l i : Nat} {xs ns : List Nat} (w : LL h r l xs ns) (hi : i < ns.length) : ∀ (n k : Nat), i ≤ k → k < ns.length → k < n + i → j_J6_node_l47 n h (nI i) (ns.getD k 0) (nI k) = some (h, ns.getD i 0)
  | 0, k, h1, h2, h3 => by omega
  | n + 1, k, h1, h2, h3 => by
    have hl := w.lt
    have hn := w.len
    show j_J6_node_b47 (j_J6_node_l47 n) h (nI i) (ns.getD k 0) (nI k) = _
    have e : (nI k ≤ nI i) = (k ≤ i) := propext (nI_leI (by omega) (by omega))
    obtain ⟨b1, b0, b2, b3, b4⟩ := w.2.2.2.2.1 k (by omega)
    by_cases c : k ≤ i
    · have : k = i := by omega
      subst this
      simp only [j_J6_node_b47, e, c, if_true]
    · have ih := node_l47 w hi n (k - 1) (by omega) (by omega) (by omega)
      simp only [j_J6_node_b47, e, c, if_false, gd_true, ult, ubd, ukd, uwr, url, unz, uhI, uhR, uhL, upI, upR, upL, eKI, eKR, eKL, eNI, eNR, eNL, eTI, eTR, eTL, eIR, eIL, eRI, eRL, eLI, eLR, rIw, rRw, rLw, decide_true, decide_false, ne_eq, not_false_eq_true, not_true_eq_false, true_and, and_true, and_false, false_and, and_self, if_true, if_false, reduceIte, Nat.reduceEqDiff, decide_not, Bool.not_true, Bool.not_false, b1, b4]
      have e2 : (0 :: ns).getD k 0 = ns.getD (k - 1) 0 := by rw [cons_getD, if_neg (by omega)]
      have e3 : nI k + (-1) = nI (k - 1) := by
        have : k = (k - 1) + 1 := by omega
        rw [this, nI_succ, Int32.add_assoc]
        show nI (k - 1) + (0 : Int32) = _
        rw [Int32.add_zero]
        rfl
      rw [e2, e3]; exact ih
theorem ll_node {h : zH} {r l i : Nat} {xs ns : List Nat} (w : LL h r l xs ns) (hi : i < xs.length) (hl : xs.length ≤ 60) : j_J6_node h l (nI i) = some (h, ns.getD i 0) := by
  have hn := w.len
  have e1 := node_l17 w (i := i) (by omega) 100 0 (by omega) (by omega)
  have e2 := node_l47 w (i := i) (by omega) 100 (ns.length - 1) (by omega) (by omega) (by omega)
  have e3 : zR h 13 r 3 l = ns.getD (ns.length - 1) 0 := by rw [w.2.2.2.2.2.2.1, cons_getD, if_neg (by omega)]
  have e4 : nI xs.length - 1 = nI (ns.length - 1) := by
    rw [hn]
    have : xs.length = (xs.length - 1) + 1 := by omega
    rw [this, nI_pred]
    simp
  rw [nI_0] at e1
  simp only [j_J6_node, gd_true, ult, ubd, ukd, uwr, url, unz, uhI, uhR, uhL, upI, upR, upL, eKI, eKR, eKL, eNI, eNR, eNL, eTI, eTR, eTL, eIR, eIL, eRI, eRL, eLI, eLR, rIw, rRw, rLw, decide_true, decide_false, ne_eq, not_false_eq_true, not_true_eq_false, true_and, and_true, and_false, false_and, and_self, if_true, if_false, reduceIte, Nat.reduceEqDiff, decide_not, Bool.not_true, Bool.not_false, w.1, w.2.2.2.2.2.1, e3, w.2.2.2.2.2.2.2, e4, e1, e2, ite_self]
theorem ll_get {h : zH} {r l i : Nat} {xs ns : List Nat} (w : LL h r l xs ns) (hi : i < xs.length) (hl : xs.length ≤ 60) : j_J6_get h l (nI i) = some (h, xs.getD i 0) := by
  have hn := w.len
  obtain ⟨b1, b0, b2, b3, b4⟩ := w.2.2.2.2.1 i (by omega)
  have e1 : ¬ nI i < 0 := nI_pos (by omega)
  have e2 : ¬ nI xs.length ≤ nI i := nI_ge hi (by omega)
  have e3 : j_J6_checkElementIndex h l (nI i) = some h := by
    simp only [j_J6_checkElementIndex, j_J6_isElementIndex, j_J6_isElementIndex_j17, j_J6_isElementIndex_j16, gd_true, ult, ubd, ukd, uwr, url, unz, uhI, uhR, uhL, upI, upR, upL, eKI, eKR, eKL, eNI, eNR, eNL, eTI, eTR, eTL, eIR, eIL, eRI, eRL, eLI, eLR, rIw, rRw, rLw, decide_true, decide_false, ne_eq, not_false_eq_true, not_true_eq_false, true_and, and_true, and_false, false_and, and_self, if_true, if_false, reduceIte, Nat.reduceEqDiff, decide_not, Bool.not_true, Bool.not_false, w.1, w.2.2.2.2.2.2.2, e1, e2]
    rfl
  simp only [j_J6_get, e3, ll_node w hi hl, gd_true, ult, ubd, ukd, uwr, url, unz, uhI, uhR, uhL, upI, upR, upL, eKI, eKR, eKL, eNI, eNR, eNL, eTI, eTR, eTL, eIR, eIL, eRI, eRL, eLI, eLR, rIw, rRw, rLw, decide_true, decide_false, ne_eq, not_false_eq_true, not_true_eq_false, true_and, and_true, and_false, false_and, and_self, if_true, if_false, reduceIte, Nat.reduceEqDiff, decide_not, Bool.not_true, Bool.not_false, w.1, b1, b2]
theorem it_init {h : zH} {r it l i : Nat} {xs ns : List Nat} (w : LL h r l xs ns) (k : zK h it = (16, r)) (h0 : zR h 16 r 0 it = 0) (hr : r ≠ 0) (hn : it ≠ 0) (hi : i ≤ xs.length) (hl : xs.length ≤ 60) : ∃ h', j_J28_init h it l (nI i) = some h' ∧ LL h' r l xs ns ∧ IT h' r it l ns i 0 ∧ Ch [(16, r)] h h' := by
  have w2 : LL (sI (sR h 16 r 4 it l) 16 r 3 it (zI h 13 r 0 l)) r l xs ns := w.keep (m := [(16, r)]) ((Ch.rf.sR (by simp)).sI (by simp)) (by simp) (by simp)
  have hlt := w.lt
  have hln := w.len
  have ev : ∃ h', j_J28_init h it l (nI i) = some h' ∧ h' = sI (sR (sI (sR h 16 r 4 it l) 16 r 3 it (zI h 13 r 0 l)) 16 r 1 it (ns.getD i 0)) 16 r 2 it (nI i) := by
    by_cases c : i = xs.length
    · subst c
      have e9 : ns.getD xs.length 0 = 0 := getD_ge (by omega)
      simp only [j_J28_init, j_J28_init_j38, gd_true, ult, ubd, ukd, uwr, url, unz, uhI, uhR, uhL, upI, upR, upL, eKI, eKR, eKL, eNI, eNR, eNL, eTI, eTR, eTL, eIR, eIL, eRI, eRL, eLI, eLR, rIw, rRw, rLw, decide_true, decide_false, ne_eq, not_false_eq_true, not_true_eq_false, true_and, and_true, and_false, false_and, and_self, if_true, if_false, reduceIte, Nat.reduceEqDiff, decide_not, Bool.not_true, Bool.not_false, k, w.1, hr, hn, w.2.2.2.2.2.2.2, e9]
      exact ⟨_, rfl, rfl⟩
    · have e8 : ¬ nI i = nI xs.length := fun e => c ((nI_eq (by omega) (by omega)).mp e)
      have e9 := ll_node w2 (i := i) (by omega) hl
      simp only [j_J28_init, j_J28_init_j38, gd_true, ult, ubd, ukd, uwr, url, unz, uhI, uhR, uhL, upI, upR, upL, eKI, eKR, eKL, eNI, eNR, eNL, eTI, eTR, eTL, eIR, eIL, eRI, eRL, eLI, eLR, rIw, rRw, rLw, decide_true, decide_false, ne_eq, not_false_eq_true, not_true_eq_false, true_and, and_true, and_false, false_and, and_self, if_true, if_false, reduceIte, Nat.reduceEqDiff, decide_not, Bool.not_true, Bool.not_false, k, w.1, hr, hn, w.2.2.2.2.2.2.2, e8, e9]
      exact ⟨_, rfl, rfl⟩
  obtain ⟨h', e1, e2⟩ := ev
  have ch : Ch [(16, r)] h h' := by rw [e2]; exact (((Ch.rf.sR (by simp)).sI (by simp)).sR (by simp)).sI (by simp)
  refine ⟨h', e1, w.keep ch (by simp) (by simp), ?_, ch⟩
  rw [e2]
  refine ⟨k, ?_, ?_, ?_, ?_, ?_⟩
  · simp [gd_true, ult, ubd, ukd, uwr, url, unz, uhI, uhR, uhL, upI, upR, upL, eKI, eKR, eKL, eNI, eNR, eNL, eTI, eTR, eTL, eIR, eIL, eRI, eRL, eLI, eLR, rIw, rRw, rLw, decide_true, decide_false, ne_eq, not_false_eq_true, not_true_eq_false, true_and, and_true, and_false, false_and, and_self, if_true, if_false, reduceIte, Nat.reduceEqDiff, decide_not, Bool.not_true, Bool.not_false, h0]
  · simp [gd_true, ult, ubd, ukd, uwr, url, unz, uhI, uhR, uhL, upI, upR, upL, eKI, eKR, eKL, eNI, eNR, eNL, eTI, eTR, eTL, eIR, eIL, eRI, eRL, eLI, eLR, rIw, rRw, rLw, decide_true, decide_false, ne_eq, not_false_eq_true, not_true_eq_false, true_and, and_true, and_false, false_and, and_self, if_true, if_false, reduceIte, Nat.reduceEqDiff, decide_not, Bool.not_true, Bool.not_false]
  · simp [gd_true, ult, ubd, ukd, uwr, url, unz, uhI, uhR, uhL, upI, upR, upL, eKI, eKR, eKL, eNI, eNR, eNL, eTI, eTR, eTL, eIR, eIL, eRI, eRL, eLI, eLR, rIw, rRw, rLw, decide_true, decide_false, ne_eq, not_false_eq_true, not_true_eq_false, true_and, and_true, and_false, false_and, and_self, if_true, if_false, reduceIte, Nat.reduceEqDiff, decide_not, Bool.not_true, Bool.not_false]
  · simp [gd_true, ult, ubd, ukd, uwr, url, unz, uhI, uhR, uhL, upI, upR, upL, eKI, eKR, eKL, eNI, eNR, eNL, eTI, eTR, eTL, eIR, eIL, eRI, eRL, eLI, eLR, rIw, rRw, rLw, decide_true, decide_false, ne_eq, not_false_eq_true, not_true_eq_false, true_and, and_true, and_false, false_and, and_self, if_true, if_false, reduceIte, Nat.reduceEqDiff, decide_not, Bool.not_true, Bool.not_false]
  · simp [gd_true, ult, ubd, ukd, uwr, url, unz, uhI, uhR, uhL, upI, upR, upL, eKI, eKR, eKL, eNI, eNR, eNL, eTI, eTR, eTL, eIR, eIL, eRI, eRL, eLI, eLR, rIw, rRw, rLw, decide_true, decide_false, ne_eq, not_false_eq_true, not_true_eq_false, true_and, and_true, and_false, false_and, and_self, if_true, if_false, reduceIte, Nat.reduceEqDiff, decide_not, Bool.not_true, Bool.not_false]
theorem ll_iterator {h : zH} {r l : Nat} {xs ns : List Nat} (w : LL h r l xs ns) (hw : zWf h) (hr : r ≠ 0) (hl : xs.length ≤ 60) : ∃ h' it, j_J5_iterator h l = some (h', it) ∧ LL h' r l xs ns ∧ IT h' r it l ns 0 0 ∧ Ch [(16, r)] h h' := by
  have lN : ¬ l = zT h + 1 := wf_ne hw w.1 (by decide)
  have ch : Ch [(16, r)] h (nw h 16 r 0) := Ch.rf.nw hw (by simp)
  have w2 := w.keep ch (by simp) (by simp)
  obtain ⟨h', e1, e2, e3, e4⟩ := it_init w2 (it := zT h + 1) (i := 0) nw_Ks (by simp [rRn]) hr (by omega) (by omega) hl
  have e0 : ¬ nI xs.length < 0 := nI_pos (by omega)
  rw [nI_0] at e1
  refine ⟨h', zT h + 1, ?_, e2, e3, ch.tr e4⟩
  have e9 : ¬ zT h + 1 = 0 := by omega
  have e5 : j_J6_checkPositionIndex h l 0 = some h := by
    simp only [j_J6_checkPositionIndex, j_J6_isPositionIndex, j_J6_isPositionIndex_j17, j_J6_isPositionIndex_j16, gd_true, ult, ubd, ukd, uwr, url, unz, uhI, uhR, uhL, upI, upR, upL, eKI, eKR, eKL, eNI, eNR, eNL, eTI, eTR, eTL, eIR, eIL, eRI, eRL, eLI, eLR, rIw, rRw, rLw, decide_true, decide_false, ne_eq, not_false_eq_true, not_true_eq_false, true_and, and_true, and_false, false_and, and_self, if_true, if_false, reduceIte, Nat.reduceEqDiff, decide_not, Bool.not_true, Bool.not_false, w.1, w.2.2.2.2.2.2.2, e0, (by decide : ¬ (0 : Int32) < 0)]
    rfl
  simp only [j_J5_iterator, j_J1_listIterator, j_J6_listIterator, e5, gd_true, ult, ubd, ukd, uwr, url, unz, uhI, uhR, uhL, upI, upR, upL, eKI, eKR, eKL, eNI, eNR, eNL, eTI, eTR, eTL, eIR, eIL, eRI, eRL, eLI, eLR, rIw, rRw, rLw, decide_true, decide_false, ne_eq, not_false_eq_true, not_true_eq_false, true_and, and_true, and_false, false_and, and_self, if_true, if_false, reduceIte, Nat.reduceEqDiff, decide_not, Bool.not_true, Bool.not_false, w.1, e1, e9]
/-! backwards -/
theorem it_hasPrev {h : zH} {r it l i lr : Nat} {ns : List Nat} (v : IT h r it l ns i lr) (hi : i < 1000000) : j_J28_hasPrevious h it = some (h, if i = 0 then 0 else 1) := by
  have e : (nI i ≤ 0) = (i = 0) := by rw [← nI_0, nI_leI (by omega) (by omega)]; exact propext ⟨fun q => by omega, fun q => by omega⟩
  simp only [j_J28_hasPrevious, j_J28_hasPrevious_j12, gd_true, ult, ubd, ukd, uwr, url, unz, uhI, uhR, uhL, upI, upR, upL, eKI, eKR, eKL, eNI, eNR, eNL, eTI, eTR, eTL, eIR, eIL, eRI, eRL, eLI, eLR, rIw, rRw, rLw, decide_true, decide_false, ne_eq, not_false_eq_true, not_true_eq_false, true_and, and_true, and_false, false_and, and_self, if_true, if_false, reduceIte, Nat.reduceEqDiff, decide_not, Bool.not_true, Bool.not_false, v.1, v.2.2.2.1, e]
  by_cases c : i = 0 <;> simp [c, b01, gd]
theorem it_previous {h : zH} {r it l i lr : Nat} {xs ns : List Nat} (w : LL h r l xs ns) (v : IT h r it l ns (i + 1) lr) (hr : r ≠ 0) (hi : i < xs.length) : ∃ h', j_J28_previous h it = some (h', xs.getD i 0) ∧ LL h' r l xs ns ∧ IT h' r it l ns i (ns.getD i 0) ∧ Ch [(16, r)] h h' := by
  have hlt := w.lt
  have hln := w.len
  obtain ⟨b1, b0, b2, b3, b4⟩ := w.2.2.2.2.1 i (by omega)
  have e1 : j_J28_hasPrevious h it = some (h, 1) := by rw [it_hasPrev v (by omega), if_neg (by omega)]
  obtain ⟨v1, v2, v3, v4, v5, v6⟩ := id v
  have e2 : j_J28_checkForComodification h it = some h := by simp only [j_J28_checkForComodification, gd_true, ult, ubd, ukd, uwr, url, unz, uhI, uhR, uhL, upI, upR, upL, eKI, eKR, eKL, eNI, eNR, eNL, eTI, eTR, eTL, eIR, eIL, eRI, eRL, eLI, eLR, rIw, rRw, rLw, decide_true, decide_false, ne_eq, not_false_eq_true, not_true_eq_false, true_and, and_true, and_false, false_and, and_self, if_true, if_false, reduceIte, Nat.reduceEqDiff, decide_not, Bool.not_true, Bool.not_false, v1, v6, w.1, v5]
  have ev : ∃ h', j_J28_previous h it = some (h', xs.getD i 0) ∧ h' = sI (sR (sR h 16 r 1 it (ns.getD i 0)) 16 r 0 it (ns.getD i 0)) 16 r 2 it (nI (i + 1) - 1) := by
    by_cases c : i + 1 < ns.length
    · obtain ⟨c1, c0, c2, c3, c4⟩ := w.2.2.2.2.1 (i + 1) c
      have c5 : (0 :: ns).getD (i + 1) 0 = ns.getD i 0 := rfl
      rw [c5] at c4
      simp only [j_J28_previous, j_J28_previous_j45, e1, e2, gd_true, ult, ubd, ukd, uwr, url, unz, uhI, uhR, uhL, upI, upR, upL, eKI, eKR, eKL, eNI, eNR, eNL, eTI, eTR, eTL, eIR, eIL, eRI, eRL, eLI, eLR, rIw, rRw, rLw, decide_true, decide_false, ne_eq, not_false_eq_true, not_true_eq_false, true_and, and_true, and_false, false_and, and_self, if_true, if_false, reduceIte, Nat.reduceEqDiff, decide_not, Bool.not_true, Bool.not_false, v1, v3, v4, v6, b1, b2, c0, c1, c4, hr, (by decide : ¬ (1 : Int32) = 0)]
      exact ⟨_, rfl, rfl⟩
    · have c0 : ns.getD (i + 1) 0 = 0 := getD_ge (by omega)
      have c3 : zR h 13 r 3 l = ns.getD i 0 := by rw [w.2.2.2.2.2.2.1, cons_getD, if_neg (by omega)]; congr 1; omega
      simp only [j_J28_previous, j_J28_previous_j45, e1, e2, gd_true, ult, ubd, ukd, uwr, url, unz, uhI, uhR, uhL, upI, upR, upL, eKI, eKR, eKL, eNI, eNR, eNL, eTI, eTR, eTL, eIR, eIL, eRI, eRL, eLI, eLR, rIw, rRw, rLw, decide_true, decide_false, ne_eq, not_false_eq_true, not_true_eq_false, true_and, and_true, and_false, false_and, and_self, if_true, if_false, reduceIte, Nat.reduceEqDiff, decide_not, Bool.not_true, Bool.not_false, v1, v3, v4, v6, b1, b2, c0, c3, w.1, hr, (by decide : ¬ (1 : Int32) = 0)]
      exact ⟨_, rfl, rfl⟩
  obtain ⟨h', e3, e4⟩ := ev
  have ch : Ch [(16, r)] h h' := by rw [e4]; exact ((Ch.rf.sR (by simp)).sR (by simp)).sI (by simp)
  refine ⟨h', e3, w.keep ch (by simp) (by simp), ?_, ch⟩
  rw [e4]
  refine ⟨v1, ?_, ?_, ?_, ?_, ?_⟩
  · simp [gd_true, ult, ubd, ukd, uwr, url, unz, uhI, uhR, uhL, upI, upR, upL, eKI, eKR, eKL, eNI, eNR, eNL, eTI, eTR, eTL, eIR, eIL, eRI, eRL, eLI, eLR, rIw, rRw, rLw, decide_true, decide_false, ne_eq, not_false_eq_true, not_true_eq_false, true_and, and_true, and_false, false_and, and_self, if_true, if_false, reduceIte, Nat.reduceEqDiff, decide_not, Bool.not_true, Bool.not_false]
  · simp [gd_true, ult, ubd, ukd, uwr, url, unz, uhI, uhR, uhL, upI, upR, upL, eKI, eKR, eKL, eNI, eNR, eNL, eTI, eTR, eTL, eIR, eIL, eRI, eRL, eLI, eLR, rIw, rRw, rLw, decide_true, decide_false, ne_eq, not_false_eq_true, not_true_eq_false, true_and, and_true, and_false, false_and, and_self, if_true, if_false, reduceIte, Nat.reduceEqDiff, decide_not, Bool.not_true, Bool.not_false]
  · simp [gd_true, ult, ubd, ukd, uwr, url, unz, uhI, uhR, uhL, upI, upR, upL, eKI, eKR, eKL, eNI, eNR, eNL, eTI, eTR, eTL, eIR, eIL, eRI, eRL, eLI, eLR, rIw, rRw, rLw, decide_true, decide_false, ne_eq, not_false_eq_true, not_true_eq_false, true_and, and_true, and_false, false_and, and_self, if_true, if_false, reduceIte, Nat.reduceEqDiff, decide_not, Bool.not_true, Bool.not_false, nI_pred]
  · simp [gd_true, ult, ubd, ukd, uwr, url, unz, uhI, uhR, uhL, upI, upR, upL, eKI, eKR, eKL, eNI, eNR, eNL, eTI, eTR, eTL, eIR, eIL, eRI, eRL, eLI, eLR, rIw, rRw, rLw, decide_true, decide_false, ne_eq, not_false_eq_true, not_true_eq_false, true_and, and_true, and_false, false_and, and_self, if_true, if_false, reduceIte, Nat.reduceEqDiff, decide_not, Bool.not_true, Bool.not_false, v5]
  · simp [gd_true, ult, ubd, ukd, uwr, url, unz, uhI, uhR, uhL, upI, upR, upL, eKI, eKR, eKL, eNI, eNR, eNL, eTI, eTR, eTL, eIR, eIL, eRI, eRL, eLI, eLR, rIw, rRw, rLw, decide_true, decide_false, ne_eq, not_false_eq_true, not_true_eq_false, true_and, and_true, and_false, false_and, and_self, if_true, if_false, reduceIte, Nat.reduceEqDiff, decide_not, Bool.not_true, Bool.not_false, v6]
/-- a descending iterator -/
def DI (h : zH) (r d l : Nat) (ns : List Nat) (i lr : Nat) : Prop := ∃ it, zK h d = (17, r) ∧ zR h 17 r 0 d = it ∧ zR h 17 r 1 d = l ∧ IT h r it l ns i lr
theorem DI.keep {h h' : zH} {r it l i lr : Nat} {m : List (Nat × Nat)} {ns : List Nat} (w : DI h r it l ns i lr) (a : Ch m h h') (e1 : (13, r) ∉ m) (e2 : (16, r) ∉ m) (e3 : (17, r) ∉ m) : DI h' r it l ns i lr := by
  obtain ⟨j, w1, w2, w3, w4⟩ := w
  exact ⟨j, a.k w1 (by decide), by rw [a.r e3]; exact w2, by rw [a.r e3]; exact w3, w4.keep a e1 e2⟩
theorem di_hasNext {h : zH} {r d l i lr : Nat} {ns : List Nat} (v : DI h r d l ns i lr) (hi : i < 1000000) : j_J32_hasNext h d = some (h, if i = 0 then 0 else 1) := by
  obtain ⟨it, v1, v2, v3, v4⟩ := v
  have e : b01 (if i = 0 then 0 else 1) = true := by split <;> decide
  simp only [j_J32_hasNext, gd_true, ult, ubd, ukd, uwr, url, unz, uhI, uhR, uhL, upI, upR, upL, eKI, eKR, eKL, eNI, eNR, eNL, eTI, eTR, eTL, eIR, eIL, eRI, eRL, eLI, eLR, rIw, rRw, rLw, decide_true, decide_false, ne_eq, not_false_eq_true, not_true_eq_false, true_and, and_true, and_false, false_and, and_self, if_true, if_false, reduceIte, Nat.reduceEqDiff, decide_not, Bool.not_true, Bool.not_false, v1, v2, v4.1, it_hasPrev v4 hi, e]
theorem di_next {h : zH} {r d l i lr : Nat} {xs ns : List Nat} (w : LL h r l xs ns) (v : DI h r d l ns (i + 1) lr) (hr : r ≠ 0) (hi : i < xs.length) : ∃ h', j_J32_next h d = some (h', xs.getD i 0) ∧ LL h' r l xs ns ∧ DI h' r d l ns i (ns.getD i 0) ∧ Ch [(16, r)] h h' := by
  obtain ⟨it, v1, v2, v3, v4⟩ := v
  obtain ⟨h', e1, e2, e3, e4⟩ := it_previous w v4 hr hi
  refine ⟨h', ?_, e2, ⟨it, e4.k v1 (by decide), by rw [e4.r (by simp)]; exact v2, by rw [e4.r (by simp)]; exact v3, e3⟩, e4⟩
  simp only [j_J32_next, gd_true, ult, ubd, ukd, uwr, url, unz, uhI, uhR, uhL, upI, upR, upL, eKI, eKR, eKL, eNI, eNR, eNL, eTI, eTR, eTL, eIR, eIL, eRI, eRL, eLI, eLR, rIw, rRw, rLw, decide_true, decide_false, ne_eq, not_false_eq_true, not_true_eq_false, true_and, and_true, and_false, false_and, and_self, if_true, if_false, reduceIte, Nat.reduceEqDiff, decide_not, Bool.not_true, Bool.not_false, v1, v2, v4.1, e1]
theorem di_remove {h : zH} {r d l i : Nat} {xs ns : List Nat} (w : LL h r l xs ns) (v : DI h r d l ns i (ns.getD i 0)) (hr : r ≠ 0) (hi : i < xs.length) : ∃ h', j_J32_remove h d = some h' ∧ LL h' r l (xs.eraseIdx i) (ns.eraseIdx i) ∧ DI h' r d l (ns.eraseIdx i) i 0 ∧ Ch [(13, r), (14, r), (16, r)] h h' := by
  obtain ⟨it, v1, v2, v3, v4⟩ := v
  obtain ⟨h', e1, e2, e3, e4⟩ := it_remove w v4 hr hi (Or.inr rfl)
  refine ⟨h', ?_, e2, ⟨it, e4.k v1 (by decide), by rw [e4.r (by simp)]; exact v2, by rw [e4.r (by simp)]; exact v3, e3⟩, e4⟩
  simp only [j_J32_remove, gd_true, ult, ubd, ukd, uwr, url, unz, uhI, uhR, uhL, upI, upR, upL, eKI, eKR, eKL, eNI, eNR, eNL, eTI, eTR, eTL, eIR, eIL, eRI, eRL, eLI, eLR, rIw, rRw, rLw, decide_true, decide_false, ne_eq, not_false_eq_true, not_true_eq_false, true_and, and_true, and_false, false_and, and_self, if_true, if_false, reduceIte, Nat.reduceEqDiff, decide_not, Bool.not_true, Bool.not_false, v1, v2, v4.1, e1]
theorem ll_descending {h : zH} {r l : Nat} {xs ns : List Nat} (w : LL h r l xs ns) (hw : zWf h) (hr : r ≠ 0) (hl : xs.length ≤ 60) : ∃ h' d, j_J6_descendingIterator h l = some (h', d) ∧ LL h' r l xs ns ∧ DI h' r d l ns xs.length 0 ∧ Ch [(16, r), (17, r)] h h' := by
  have lN : ¬ l = zT h + 1 := wf_ne hw w.1 (by decide)
  have c1 : Ch [(16, r), (17, r)] h (sR (nw h 17 r 0) 17 r 1 (zT h + 1) l) := (Ch.rf.nw hw (by simp)).sR (by simp)
  have hw1 : zWf (sR (nw h 17 r 0) 17 r 1 (zT h + 1) l) := c1.wf hw
  have c2 : Ch [(16, r), (17, r)] h (nw (sR (nw h 17 r 0) 17 r 1 (zT h + 1) l) 16 r 0) := c1.nw hw (by simp)
  have w2 := w.keep c2 (by simp) (by simp)
  have e9 : ¬ zT h + 1 = 0 := by omega
  have e8 : ¬ zT h + 1 + 1 = 0 := by omega
  have e7 : ¬ zT h + 1 = zT h + 1 + 1 := by omega
  have e6 : ¬ l = zT h + 1 + 1 := by have := w.l0 hw; have h9 := hw l (by rw [w.1]; exact (by decide : (13 : Nat) ≠ 0)); omega
  obtain ⟨h', e1, e2, e3, e4⟩ := it_init w2 (it := zT h + 1 + 1) (i := xs.length) (by simp [gd_true, ult, ubd, ukd, uwr, url, unz, uhI, uhR, uhL, upI, upR, upL, eKI, eKR, eKL, eNI, eNR, eNL, eTI, eTR, eTL, eIR, eIL, eRI, eRL, eLI, eLR, rIw, rRw, rLw, decide_true, decide_false, ne_eq, not_false_eq_true, not_true_eq_false, true_and, and_true, and_false, false_and, and_self, if_true, if_false, reduceIte, Nat.reduceEqDiff, decide_not, Bool.not_true, Bool.not_false, zK_nw, eTn]) (by simp [rRn, gd_true, ult, ubd, ukd, uwr, url, unz, uhI, uhR, uhL, upI, upR, upL, eKI, eKR, eKL, eNI, eNR, eNL, eTI, eTR, eTL, eIR, eIL, eRI, eRL, eLI, eLR, rIw, rRw, rLw, decide_true, decide_false, ne_eq, not_false_eq_true, not_true_eq_false, true_and, and_true, and_false, false_and, and_self, if_true, if_false, reduceIte, Nat.reduceEqDiff, decide_not, Bool.not_true, Bool.not_false, eTn]) hr (by omega) (by omega) hl
  have kd9 : zK h' (zT h + 1) = (17, r) := e4.k (by simp [gd_true, ult, ubd, ukd, uwr, url, unz, uhI, uhR, uhL, upI, upR, upL, eKI, eKR, eKL, eNI, eNR, eNL, eTI, eTR, eTL, eIR, eIL, eRI, eRL, eLI, eLR, rIw, rRw, rLw, decide_true, decide_false, ne_eq, not_false_eq_true, not_true_eq_false, true_and, and_true, and_false, false_and, and_self, if_true, if_false, reduceIte, Nat.reduceEqDiff, decide_not, Bool.not_true, Bool.not_false, zK_nw, eTn]) (by decide)
  have s0 : zI h 13 r 1 l = nI xs.length := w.2.2.2.2.2.2.2
  refine ⟨sR h' 17 r 0 (zT h + 1) (zT h + 1 + 1), zT h + 1, ?_, e2.keep (m := [(17, r)]) (Ch.rf.sR (by simp)) (by simp) (by simp), ⟨zT h + 1 + 1, kd9, by simp [gd_true, ult, ubd, ukd, uwr, url, unz, uhI, uhR, uhL, upI, upR, upL, eKI, eKR, eKL, eNI, eNR, eNL, eTI, eTR, eTL, eIR, eIL, eRI, eRL, eLI, eLR, rIw, rRw, rLw, decide_true, decide_false, ne_eq, not_false_eq_true, not_true_eq_false, true_and, and_true, and_false, false_and, and_self, if_true, if_false, reduceIte, Nat.reduceEqDiff, decide_not, Bool.not_true, Bool.not_false], ?_, e3.keep (m := [(17, r)]) (Ch.rf.sR (by simp)) (by simp) (by simp)⟩, (c2.tr (e4.sub (by simp))).sR (by simp)⟩
  · have t1 : zT (nw h 17 r 0) = zT h + 1 := eTn
    simp only [j_J6_descendingIterator, j_J32_init, j_J6_size, gd_true, ult, ubd, ukd, uwr, url, unz, uhI, uhR, uhL, upI, upR, upL, eKI, eKR, eKL, eNI, eNR, eNL, eTI, eTR, eTL, eIR, eIL, eRI, eRL, eLI, eLR, rIw, rRw, rLw, decide_true, decide_false, ne_eq, not_false_eq_true, not_true_eq_false, true_and, and_true, and_false, false_and, and_self, if_true, if_false, reduceIte, Nat.reduceEqDiff, decide_not, Bool.not_true, Bool.not_false, zK_nw, rIn, rRn, t1, w.1, lN, e9, e8, e7, e6, hr, s0, e1, kd9]
  · simp only [gd_true, ult, ubd, ukd, uwr, url, unz, uhI, uhR, uhL, upI, upR, upL, eKI, eKR, eKL, eNI, eNR, eNL, eTI, eTR, eTL, eIR, eIL, eRI, eRL, eLI, eLR, rIw, rRw, rLw, decide_true, decide_false, ne_eq, not_false_eq_true, not_true_eq_false, true_and, and_true, and_false, false_and, and_self, if_true, if_false, reduceIte, Nat.reduceEqDiff, decide_not, Bool.not_true, Bool.not_false]
    rw [e4.r (by simp)]
    simp [gd_true, ult, ubd, ukd, uwr, url, unz, uhI, uhR, uhL, upI, upR, upL, eKI, eKR, eKL, eNI, eNR, eNL, eTI, eTR, eTL, eIR, eIL, eRI, eRL, eLI, eLR, rIw, rRw, rLw, decide_true, decide_false, ne_eq, not_false_eq_true, not_true_eq_false, true_and, and_true, and_false, false_and, and_self, if_true, if_false, reduceIte, Nat.reduceEqDiff, decide_not, Bool.not_true, Bool.not_false, rRn]
