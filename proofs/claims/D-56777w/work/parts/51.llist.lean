/-! LINKED LISTS IN THE HEAP: what the library's methods do to them, in plain Lean -/
set_option maxRecDepth 100000
theorem getD_lt {α : Type} {l : List α} {i : Nat} {d : α} (h : i < l.length) : l.getD i d = l[i] := by simp [List.getD, List.getElem?_eq_getElem h]
theorem getD_ge {α : Type} {l : List α} {i : Nat} {d : α} (h : l.length ≤ i) : l.getD i d = d := by simp [List.getD, List.getElem?_eq_none h]
theorem getD_app1 {α : Type} {xs ys : List α} {i : Nat} {d : α} (h : i < xs.length) : (xs ++ ys).getD i d = xs.getD i d := by simp [List.getD, List.getElem?_append_left h]
theorem getD_app2 {α : Type} {xs : List α} {y d : α} : (xs ++ [y]).getD xs.length d = y := by simp [List.getD]
theorem getD_er {α : Type} {l : List α} {i j : Nat} {d : α} : (l.eraseIdx i).getD j d = if j < i then l.getD j d else l.getD (j + 1) d := by
  simp only [List.getD, List.getElem?_eraseIdx]
  split <;> rfl
theorem nd_inj {ns : List Nat} (hn : ns.Nodup) {i j : Nat} (hi : i < ns.length) (hj : j < ns.length) (e : ns.getD i 0 = ns.getD j 0) : i = j := by
  rw [getD_lt hi, getD_lt hj] at e
  exact (List.getElem_inj hn).mp e
/-- a linked list l of role r: its elements xs lie in the nodes ns -/
def LL (h : zH) (r l : Nat) (xs ns : List Nat) : Prop :=
  zK h l = (13, r) ∧ ns.length = xs.length ∧ ns.Nodup ∧ xs.length < 1000000 ∧
  (∀ i, i < ns.length → zK h (ns.getD i 0) = (14, r) ∧ ns.getD i 0 ≠ 0 ∧ zR h 14 r 0 (ns.getD i 0) = xs.getD i 0 ∧ zR h 14 r 1 (ns.getD i 0) = ns.getD (i + 1) 0 ∧ zR h 14 r 2 (ns.getD i 0) = (0 :: ns).getD i 0) ∧
  zR h 13 r 2 l = ns.getD 0 0 ∧ zR h 13 r 3 l = (0 :: ns).getD ns.length 0 ∧ zI h 13 r 1 l = nI xs.length
theorem LL.keep {h h' : zH} {r l : Nat} {m : List (Nat × Nat)} {xs ns : List Nat} (w : LL h r l xs ns) (a : Ch m h h') (e1 : (13, r) ∉ m) (e2 : (14, r) ∉ m) : LL h' r l xs ns := by
  obtain ⟨w1, w2, w3, w4, w5, w6, w7, w8⟩ := w
  refine ⟨a.k w1 (by decide), w2, w3, w4, fun i hi => ?_, by rw [a.r e1]; exact w6, by rw [a.r e1]; exact w7, by rw [a.i e1]; exact w8⟩
  obtain ⟨b1, b0, b2, b3, b4⟩ := w5 i hi
  exact ⟨a.k b1 (by decide), b0, by rw [a.r e2]; exact b2, by rw [a.r e2]; exact b3, by rw [a.r e2]; exact b4⟩
theorem LL.l0 {h : zH} {r l : Nat} {xs ns : List Nat} (w : LL h r l xs ns) (hw : zWf h) : l ≠ 0 := wf_n0 hw w.1 (by decide)
/-- the elements are read -/
theorem ll_size {h : zH} {r l : Nat} {xs ns : List Nat} (w : LL h r l xs ns) : j_J6_size h l = some (h, nI xs.length) := by
  simp only [j_J6_size, gd_true, ult, ubd, ukd, uwr, url, unz, uhI, uhR, uhL, upI, upR, upL, eKI, eKR, eKL, eNI, eNR, eNL, eTI, eTR, eTL, eIR, eIL, eRI, eRL, eLI, eLR, rIw, rRw, rLw, decide_true, decide_false, ne_eq, not_false_eq_true, not_true_eq_false, true_and, and_true, and_false, false_and, and_self, if_true, if_false, reduceIte, Nat.reduceEqDiff, decide_not, Bool.not_true, Bool.not_false, w.1, w.2.2.2.2.2.2.2]
theorem ll_isEmpty {h : zH} {r l : Nat} {xs ns : List Nat} (w : LL h r l xs ns) : j_J0_isEmptyL h l = some (h, if xs = [] then 1 else 0) := by
  have e : (nI xs.length = 0) = (xs = []) := by
    rw [← nI_0, nI_eq (by have := w.2.2.2.1; omega) (by decide)]
    simp
  have e2 : b01 (if xs = [] then 1 else 0) = true := by unfold b01; split <;> decide
  simp only [j_J0_isEmptyL, j_J0_isEmptyL_j12, gd_true, ult, ubd, ukd, uwr, url, unz, uhI, uhR, uhL, upI, upR, upL, eKI, eKR, eKL, eNI, eNR, eNL, eTI, eTR, eTL, eIR, eIL, eRI, eRL, eLI, eLR, rIw, rRw, rLw, decide_true, decide_false, ne_eq, not_false_eq_true, not_true_eq_false, true_and, and_true, and_false, false_and, and_self, if_true, if_false, reduceIte, Nat.reduceEqDiff, decide_not, Bool.not_true, Bool.not_false, w.1, ll_size w, e]
  split <;> simp [b01, gd]
theorem ll_first {h : zH} {r l : Nat} {xs ns : List Nat} (w : LL h r l xs ns) (h0 : 0 < xs.length) : j_J6_getFirst h l = some (h, xs.getD 0 0) := by
  obtain ⟨w1, w2, w3, w4, w5, w6, w7, w8⟩ := w
  obtain ⟨b1, b0, b2, b3, b4⟩ := w5 0 (by omega)
  simp only [j_J6_getFirst, gd_true, ult, ubd, ukd, uwr, url, unz, uhI, uhR, uhL, upI, upR, upL, eKI, eKR, eKL, eNI, eNR, eNL, eTI, eTR, eTL, eIR, eIL, eRI, eRL, eLI, eLR, rIw, rRw, rLw, decide_true, decide_false, ne_eq, not_false_eq_true, not_true_eq_false, true_and, and_true, and_false, false_and, and_self, if_true, if_false, reduceIte, Nat.reduceEqDiff, decide_not, Bool.not_true, Bool.not_false, w1, w6, if_neg b0, b1, b2]
theorem cons_getD {ns : List Nat} {i : Nat} : (0 :: ns).getD i 0 = if i = 0 then 0 else ns.getD (i - 1) 0 := by
  cases i with
  | zero => rfl
  | succ i => rfl
theorem LL.erase {h h' : zH} {r l i N P X : Nat} {xs ns : List Nat} (w : LL h r l xs ns) (hi : i < ns.length) (hN : N = ns.getD i 0) (hP : P = (0 :: ns).getD i 0) (hX : X = ns.getD (i + 1) 0) (kk : ∀ q, zK h' q = zK h q)
    (o0 : ∀ q, q ≠ N → zR h' 14 r 0 q = zR h 14 r 0 q) (o1 : ∀ q, q ≠ N → q ≠ P → zR h' 14 r 1 q = zR h 14 r 1 q) (o1' : P ≠ 0 → zR h' 14 r 1 P = X)
    (o2 : ∀ q, q ≠ N → q ≠ X → zR h' 14 r 2 q = zR h 14 r 2 q) (o2' : X ≠ 0 → zR h' 14 r 2 X = P)
    (f : zR h' 13 r 2 l = if P = 0 then X else zR h 13 r 2 l) (la : zR h' 13 r 3 l = if X = 0 then P else zR h 13 r 3 l) (sz : zI h' 13 r 1 l = zI h 13 r 1 l - 1) : LL h' r l (xs.eraseIdx i) (ns.eraseIdx i) := by
  obtain ⟨w1, w2, w3, w4, w5, w6, w7, w8⟩ := w
  have inj := fun {a b : Nat} (ha : a < ns.length) (hb : b < ns.length) => nd_inj w3 (i := a) (j := b) ha hb
  have hl1 : (ns.eraseIdx i).length = ns.length - 1 := by rw [List.length_eraseIdx, if_pos hi]
  have hl2 : (xs.eraseIdx i).length = xs.length - 1 := by rw [List.length_eraseIdx, if_pos (by omega)]
  rw [cons_getD] at hP
  have pz : P = 0 ↔ i = 0 := by
    rw [hP]
    constructor
    · intro e
      by_cases e0 : i = 0
      · exact e0
      · rw [if_neg e0] at e; exact absurd e (w5 (i - 1) (by omega)).2.1
    · intro e; rw [if_pos e]
  have xz : X = 0 ↔ i + 1 = ns.length := by
    rw [hX]
    constructor
    · intro e
      by_cases e0 : i + 1 < ns.length
      · exact absurd e (w5 (i + 1) e0).2.1
      · omega
    · intro e; exact getD_ge (by omega)
  refine ⟨by rw [kk]; exact w1, by rw [hl1, hl2, w2], w3.eraseIdx i, by omega, fun j hj => ?_, ?_, ?_, ?_⟩
  · rw [hl1] at hj
    obtain ⟨t, ht, htl, hti⟩ : ∃ t, t = (if j < i then j else j + 1) ∧ t < ns.length ∧ t ≠ i := ⟨_, rfl, by split <;> omega, by split <;> omega⟩
    have eq : (ns.eraseIdx i).getD j 0 = ns.getD t 0 := by rw [getD_er, ht]; split <;> rfl
    have ex : (xs.eraseIdx i).getD j 0 = xs.getD t 0 := by rw [getD_er, ht]; split <;> rfl
    obtain ⟨b1, b0, b2, b3, b4⟩ := w5 t htl
    have qN : ns.getD t 0 ≠ N := fun e => hti (inj htl hi (by rw [e, hN]))
    rw [eq, ex]
    refine ⟨by rw [kk]; exact b1, b0, by rw [o0 _ qN]; exact b2, ?_, ?_⟩
    · rw [getD_er]
      by_cases c : t + 1 = i
      · have e : ns.getD t 0 = P := by rw [hP, if_neg (by omega)]; congr 1; omega
        rw [e, o1' (by rw [← e]; exact b0), hX, if_neg (by split at ht <;> omega)]
        congr 1; split at ht <;> omega
      · have qP : ns.getD t 0 ≠ P := fun e => by
          by_cases e0 : i = 0
          · rw [pz.mpr e0] at e; exact b0 e
          · rw [hP, if_neg e0] at e
            have := inj htl (by omega) e
            omega
        rw [o1 _ qN qP, b3]
        split at ht
        · rw [if_pos (by omega), ht]
        · rw [if_neg (by omega), ht]
    · rw [cons_getD, getD_er]
      by_cases c : t = i + 1
      · have e : ns.getD t 0 = X := by rw [hX, c]
        rw [e, o2' (by rw [← e]; exact b0), hP]
        have hj9 : j = i := by split at ht <;> omega
        rw [hj9]
        split
        · rfl
        · rw [if_pos (by omega)]
      · have qX : ns.getD t 0 ≠ X := fun e => by
          by_cases e0 : i + 1 = ns.length
          · rw [xz.mpr e0] at e; exact b0 e
          · rw [hX] at e
            have := inj htl (by omega) e
            omega
        rw [o2 _ qN qX, b4, cons_getD]
        split at ht
        · subst ht
          split
          · rfl
          · rw [if_pos (by omega)]
        · rw [if_neg (by omega), if_neg (by omega), if_neg (by omega), ht]
          congr 1
          omega
  · rw [f, getD_er]
    by_cases e0 : i = 0
    · rw [if_pos (pz.mpr e0), if_neg (by omega), hX, e0]
    · rw [if_neg (fun e => e0 (pz.mp e)), if_pos (by omega), w6]
  · rw [la, hl1, cons_getD, getD_er]
    by_cases e0 : i + 1 = ns.length
    · rw [if_pos (xz.mpr e0), hP]
      by_cases e1 : i = 0
      · rw [if_pos e1, if_pos (by omega)]
      · rw [if_neg e1, if_neg (by omega), if_pos (by omega)]
        congr 1; omega
    · rw [if_neg (fun e => e0 (xz.mp e)), w7, cons_getD, if_neg (by omega), if_neg (by omega), if_neg (by omega)]
      congr 1; omega
  · rw [sz, w8, hl2]
    have : xs.length = (xs.length - 1) + 1 := by omega
    rw [this, nI_pred]
    simp
/-- a node is taken out -/
theorem ll_unlink {h : zH} {r l i : Nat} {xs ns : List Nat} (w : LL h r l xs ns) (hr : r ≠ 0) (hi : i < ns.length) : ∃ h', j_J6_unlink h l (ns.getD i 0) = some (h', xs.getD i 0) ∧ LL h' r l (xs.eraseIdx i) (ns.eraseIdx i) ∧ Ch [(13, r), (14, r)] h h' ∧ zI h' 13 r 0 l = zI h 13 r 0 l + 1 ∧ (∀ q, zK h' q = zK h q) ∧ zT h' = zT h := by
  have w9 := w
  obtain ⟨w1, w2, w3, w4, w5, w6, w7, w8⟩ := w
  obtain ⟨b1, b0, b2, b3, b4⟩ := w5 i hi
  have nN : ¬ (0 :: ns).getD i 0 = ns.getD i 0 := by
    rw [cons_getD]
    split
    · exact fun e => b0 e.symm
    · intro e; have := nd_inj w3 (by omega) hi e; omega
  have nX : ¬ ns.getD (i + 1) 0 = ns.getD i 0 := by
    by_cases e0 : i + 1 < ns.length
    · intro e; have := nd_inj w3 e0 hi e; omega
    · rw [getD_ge (by omega)]; exact fun e => b0 e.symm
  have kX : ns.getD (i + 1) 0 ≠ 0 → zK h (ns.getD (i + 1) 0) = (14, r) := fun h0 => by
    by_cases e0 : i + 1 < ns.length
    · exact (w5 (i + 1) e0).1
    · rw [getD_ge (by omega)] at h0; exact absurd rfl h0
  have kP : (0 :: ns).getD i 0 ≠ 0 → zK h ((0 :: ns).getD i 0) = (14, r) := fun h0 => by
    rw [cons_getD] at h0 ⊢
    by_cases e0 : i = 0
    · rw [if_pos e0] at h0; exact absurd rfl h0
    · rw [if_neg e0]; exact (w5 (i - 1) (by omega)).1
  generalize hP : (0 :: ns).getD i 0 = P at *
  generalize hX : ns.getD (i + 1) 0 = X at *
  generalize hN : ns.getD i 0 = N at *
  have nN' : ¬ N = P := fun e => nN e.symm
  have nX' : ¬ N = X := fun e => nX e.symm
  have lN : ¬ l = N := k0_ne w1 b1 (by decide)
  have ev : ∃ h', j_J6_unlink h l N = some (h', xs.getD i 0) ∧ h' = (let h1 := if P = 0 then sR h 13 r 2 l X else sR (sR h 14 r 1 P X) 14 r 2 N 0
      let h2 := if X = 0 then sR h1 13 r 3 l P else sR (sR h1 14 r 2 X P) 14 r 1 N 0
      let h3 := sI (sR h2 14 r 0 N 0) 13 r 1 l (zI h 13 r 1 l - 1)
      sI h3 13 r 0 l (zI h 13 r 0 l + 1)) := by
    by_cases p0 : P = 0 <;> by_cases x0 : X = 0
    · simp only [j_J6_unlink, j_J6_unlink_j40, j_J6_unlink_j64, gd_true, ult, ubd, ukd, uwr, url, unz, uhI, uhR, uhL, upI, upR, upL, eKI, eKR, eKL, eNI, eNR, eNL, eTI, eTR, eTL, eIR, eIL, eRI, eRL, eLI, eLR, rIw, rRw, rLw, decide_true, decide_false, ne_eq, not_false_eq_true, not_true_eq_false, true_and, and_true, and_false, false_and, and_self, if_true, if_false, reduceIte, Nat.reduceEqDiff, decide_not, Bool.not_true, Bool.not_false, b1, b2, b3, b4, w1, p0, x0, hr]
      exact ⟨_, rfl, rfl⟩
    · simp only [j_J6_unlink, j_J6_unlink_j40, j_J6_unlink_j64, gd_true, ult, ubd, ukd, uwr, url, unz, uhI, uhR, uhL, upI, upR, upL, eKI, eKR, eKL, eNI, eNR, eNL, eTI, eTR, eTL, eIR, eIL, eRI, eRL, eLI, eLR, rIw, rRw, rLw, decide_true, decide_false, ne_eq, not_false_eq_true, not_true_eq_false, true_and, and_true, and_false, false_and, and_self, if_true, if_false, reduceIte, Nat.reduceEqDiff, decide_not, Bool.not_true, Bool.not_false, b1, b2, b3, b4, w1, p0, x0, hr, kX x0]
      exact ⟨_, rfl, rfl⟩
    · simp only [j_J6_unlink, j_J6_unlink_j40, j_J6_unlink_j64, gd_true, ult, ubd, ukd, uwr, url, unz, uhI, uhR, uhL, upI, upR, upL, eKI, eKR, eKL, eNI, eNR, eNL, eTI, eTR, eTL, eIR, eIL, eRI, eRL, eLI, eLR, rIw, rRw, rLw, decide_true, decide_false, ne_eq, not_false_eq_true, not_true_eq_false, true_and, and_true, and_false, false_and, and_self, if_true, if_false, reduceIte, Nat.reduceEqDiff, decide_not, Bool.not_true, Bool.not_false, b1, b2, b3, b4, w1, p0, x0, hr, kP p0]
      exact ⟨_, rfl, rfl⟩
    · simp only [j_J6_unlink, j_J6_unlink_j40, j_J6_unlink_j64, gd_true, ult, ubd, ukd, uwr, url, unz, uhI, uhR, uhL, upI, upR, upL, eKI, eKR, eKL, eNI, eNR, eNL, eTI, eTR, eTL, eIR, eIL, eRI, eRL, eLI, eLR, rIw, rRw, rLw, decide_true, decide_false, ne_eq, not_false_eq_true, not_true_eq_false, true_and, and_true, and_false, false_and, and_self, if_true, if_false, reduceIte, Nat.reduceEqDiff, decide_not, Bool.not_true, Bool.not_false, b1, b2, b3, b4, w1, p0, x0, hr, kP p0, kX x0]
      exact ⟨_, rfl, rfl⟩
  obtain ⟨h', e1, e2⟩ := ev
  have kk : ∀ q, zK h' q = zK h q := fun q => by rw [e2]; dsimp only; by_cases p0 : P = 0 <;> by_cases x0 : X = 0 <;> simp only [p0, x0, gd_true, ult, ubd, ukd, uwr, url, unz, uhI, uhR, uhL, upI, upR, upL, eKI, eKR, eKL, eNI, eNR, eNL, eTI, eTR, eTL, eIR, eIL, eRI, eRL, eLI, eLR, rIw, rRw, rLw, decide_true, decide_false, ne_eq, not_false_eq_true, not_true_eq_false, true_and, and_true, and_false, false_and, and_self, if_true, if_false, reduceIte, Nat.reduceEqDiff, decide_not, Bool.not_true, Bool.not_false]
  refine ⟨h', e1, w9.erase hi hN.symm hP.symm hX.symm kk ?_ ?_ ?_ ?_ ?_ ?_ ?_ ?_, ?_, ?_, kk, ?_⟩
  · intro q hq; rw [e2]; dsimp only; by_cases p0 : P = 0 <;> by_cases x0 : X = 0 <;> simp [p0, x0, gd_true, ult, ubd, ukd, uwr, url, unz, uhI, uhR, uhL, upI, upR, upL, eKI, eKR, eKL, eNI, eNR, eNL, eTI, eTR, eTL, eIR, eIL, eRI, eRL, eLI, eLR, rIw, rRw, rLw, decide_true, decide_false, ne_eq, not_false_eq_true, not_true_eq_false, true_and, and_true, and_false, false_and, and_self, if_true, if_false, reduceIte, Nat.reduceEqDiff, decide_not, Bool.not_true, Bool.not_false, hq]
  · intro q hq hq2; rw [e2]; dsimp only; by_cases p0 : P = 0 <;> by_cases x0 : X = 0 <;> simp [p0, x0, gd_true, ult, ubd, ukd, uwr, url, unz, uhI, uhR, uhL, upI, upR, upL, eKI, eKR, eKL, eNI, eNR, eNL, eTI, eTR, eTL, eIR, eIL, eRI, eRL, eLI, eLR, rIw, rRw, rLw, decide_true, decide_false, ne_eq, not_false_eq_true, not_true_eq_false, true_and, and_true, and_false, false_and, and_self, if_true, if_false, reduceIte, Nat.reduceEqDiff, decide_not, Bool.not_true, Bool.not_false, hq, hq2]
  · intro h0; rw [e2]; dsimp only; by_cases x0 : X = 0 <;> simp [h0, x0, gd_true, ult, ubd, ukd, uwr, url, unz, uhI, uhR, uhL, upI, upR, upL, eKI, eKR, eKL, eNI, eNR, eNL, eTI, eTR, eTL, eIR, eIL, eRI, eRL, eLI, eLR, rIw, rRw, rLw, decide_true, decide_false, ne_eq, not_false_eq_true, not_true_eq_false, true_and, and_true, and_false, false_and, and_self, if_true, if_false, reduceIte, Nat.reduceEqDiff, decide_not, Bool.not_true, Bool.not_false, nN, nN']
  · intro q hq hq2; rw [e2]; dsimp only; by_cases p0 : P = 0 <;> by_cases x0 : X = 0 <;> simp [p0, x0, gd_true, ult, ubd, ukd, uwr, url, unz, uhI, uhR, uhL, upI, upR, upL, eKI, eKR, eKL, eNI, eNR, eNL, eTI, eTR, eTL, eIR, eIL, eRI, eRL, eLI, eLR, rIw, rRw, rLw, decide_true, decide_false, ne_eq, not_false_eq_true, not_true_eq_false, true_and, and_true, and_false, false_and, and_self, if_true, if_false, reduceIte, Nat.reduceEqDiff, decide_not, Bool.not_true, Bool.not_false, hq, hq2]
  · intro h0; rw [e2]; dsimp only; by_cases p0 : P = 0 <;> simp [h0, p0, gd_true, ult, ubd, ukd, uwr, url, unz, uhI, uhR, uhL, upI, upR, upL, eKI, eKR, eKL, eNI, eNR, eNL, eTI, eTR, eTL, eIR, eIL, eRI, eRL, eLI, eLR, rIw, rRw, rLw, decide_true, decide_false, ne_eq, not_false_eq_true, not_true_eq_false, true_and, and_true, and_false, false_and, and_self, if_true, if_false, reduceIte, Nat.reduceEqDiff, decide_not, Bool.not_true, Bool.not_false, nX, nX']
  · rw [e2]; dsimp only; by_cases p0 : P = 0 <;> by_cases x0 : X = 0 <;> simp [p0, x0, gd_true, ult, ubd, ukd, uwr, url, unz, uhI, uhR, uhL, upI, upR, upL, eKI, eKR, eKL, eNI, eNR, eNL, eTI, eTR, eTL, eIR, eIL, eRI, eRL, eLI, eLR, rIw, rRw, rLw, decide_true, decide_false, ne_eq, not_false_eq_true, not_true_eq_false, true_and, and_true, and_false, false_and, and_self, if_true, if_false, reduceIte, Nat.reduceEqDiff, decide_not, Bool.not_true, Bool.not_false]
  · rw [e2]; dsimp only; by_cases p0 : P = 0 <;> by_cases x0 : X = 0 <;> simp [p0, x0, gd_true, ult, ubd, ukd, uwr, url, unz, uhI, uhR, uhL, upI, upR, upL, eKI, eKR, eKL, eNI, eNR, eNL, eTI, eTR, eTL, eIR, eIL, eRI, eRL, eLI, eLR, rIw, rRw, rLw, decide_true, decide_false, ne_eq, not_false_eq_true, not_true_eq_false, true_and, and_true, and_false, false_and, and_self, if_true, if_false, reduceIte, Nat.reduceEqDiff, decide_not, Bool.not_true, Bool.not_false]
  · rw [e2]; dsimp only; by_cases p0 : P = 0 <;> by_cases x0 : X = 0 <;> simp [p0, x0, gd_true, ult, ubd, ukd, uwr, url, unz, uhI, uhR, uhL, upI, upR, upL, eKI, eKR, eKL, eNI, eNR, eNL, eTI, eTR, eTL, eIR, eIL, eRI, eRL, eLI, eLR, rIw, rRw, rLw, decide_true, decide_false, ne_eq, not_false_eq_true, not_true_eq_false, true_and, and_true, and_false, false_and, and_self, if_true, if_false, reduceIte, Nat.reduceEqDiff, decide_not, Bool.not_true, Bool.not_false]
  · rw [e2]; dsimp only
    by_cases p0 : P = 0 <;> by_cases x0 : X = 0 <;> simp only [p0, x0, if_true, if_false] <;> repeat' (first | exact Ch.rf | refine Ch.sI ?_ (by simp) | refine Ch.sR ?_ (by simp))
  · rw [e2]; dsimp only; by_cases p0 : P = 0 <;> by_cases x0 : X = 0 <;> simp [p0, x0, gd_true, ult, ubd, ukd, uwr, url, unz, uhI, uhR, uhL, upI, upR, upL, eKI, eKR, eKL, eNI, eNR, eNL, eTI, eTR, eTL, eIR, eIL, eRI, eRL, eLI, eLR, rIw, rRw, rLw, decide_true, decide_false, ne_eq, not_false_eq_true, not_true_eq_false, true_and, and_true, and_false, false_and, and_self, if_true, if_false, reduceIte, Nat.reduceEqDiff, decide_not, Bool.not_true, Bool.not_false]
  · rw [e2]; dsimp only; by_cases p0 : P = 0 <;> by_cases x0 : X = 0 <;> simp only [p0, x0, gd_true, ult, ubd, ukd, uwr, url, unz, uhI, uhR, uhL, upI, upR, upL, eKI, eKR, eKL, eNI, eNR, eNL, eTI, eTR, eTL, eIR, eIL, eRI, eRL, eLI, eLR, rIw, rRw, rLw, decide_true, decide_false, ne_eq, not_false_eq_true, not_true_eq_false, true_and, and_true, and_false, false_and, and_self, if_true, if_false, reduceIte, Nat.reduceEqDiff, decide_not, Bool.not_true, Bool.not_false]
theorem LL.len {h : zH} {r l : Nat} {xs ns : List Nat} (w : LL h r l xs ns) : ns.length = xs.length := w.2.1
theorem LL.lt {h : zH} {r l : Nat} {xs ns : List Nat} (w : LL h r l xs ns) : xs.length < 1000000 := w.2.2.2.1
/-- the first node is taken out -/
theorem ll_removeFirst {h : zH} {r l : Nat} {xs ns : List Nat} (w : LL h r l xs ns) (hr : r ≠ 0) (hi : 0 < xs.length) : ∃ h', j_J6_removeFirst h l = some (h', xs.getD 0 0) ∧ LL h' r l xs.tail ns.tail ∧ Ch [(13, r), (14, r)] h h' ∧ (∀ q, zK h' q = zK h q) ∧ zT h' = zT h := by
  have w9 := w
  obtain ⟨w1, w2, w3, w4, w5, w6, w7, w8⟩ := w
  have hi9 : 0 < ns.length := by omega
  obtain ⟨b1, b0, b2, b3, b4⟩ := w5 0 hi9
  have nX : ¬ ns.getD (0 + 1) 0 = ns.getD 0 0 := by
    by_cases e0 : 0 + 1 < ns.length
    · intro e; have := nd_inj w3 e0 hi9 e; omega
    · rw [getD_ge (by omega)]; exact fun e => b0 e.symm
  have kX : ns.getD (0 + 1) 0 ≠ 0 → zK h (ns.getD (0 + 1) 0) = (14, r) := fun h0 => by
    by_cases e0 : 0 + 1 < ns.length
    · exact (w5 (0 + 1) e0).1
    · rw [getD_ge (by omega)] at h0; exact absurd rfl h0
  generalize hX : ns.getD (0 + 1) 0 = X at *
  generalize hN : ns.getD 0 0 = N at *
  have nX' : ¬ N = X := fun e => nX e.symm
  have ev : ∃ h', j_J6_removeFirst h l = some (h', xs.getD 0 0) ∧ h' = (let h1 := sR (sR (sR h 14 r 0 N 0) 14 r 1 N 0) 13 r 2 l X
      let h2 := if X = 0 then sR h1 13 r 3 l 0 else sR h1 14 r 2 X 0
      sI (sI h2 13 r 1 l (zI h 13 r 1 l - 1)) 13 r 0 l (zI h 13 r 0 l + 1)) := by
    by_cases x0 : X = 0
    · simp only [j_J6_removeFirst, j_J6_unlinkFirst, j_J6_unlinkFirst_j42, gd_true, ult, ubd, ukd, uwr, url, unz, uhI, uhR, uhL, upI, upR, upL, eKI, eKR, eKL, eNI, eNR, eNL, eTI, eTR, eTL, eIR, eIL, eRI, eRL, eLI, eLR, rIw, rRw, rLw, decide_true, decide_false, ne_eq, not_false_eq_true, not_true_eq_false, true_and, and_true, and_false, false_and, and_self, if_true, if_false, reduceIte, Nat.reduceEqDiff, decide_not, Bool.not_true, Bool.not_false, b1, b2, b3, b4, w1, w6, b0, x0, hr]
      exact ⟨_, rfl, rfl⟩
    · simp only [j_J6_removeFirst, j_J6_unlinkFirst, j_J6_unlinkFirst_j42, gd_true, ult, ubd, ukd, uwr, url, unz, uhI, uhR, uhL, upI, upR, upL, eKI, eKR, eKL, eNI, eNR, eNL, eTI, eTR, eTL, eIR, eIL, eRI, eRL, eLI, eLR, rIw, rRw, rLw, decide_true, decide_false, ne_eq, not_false_eq_true, not_true_eq_false, true_and, and_true, and_false, false_and, and_self, if_true, if_false, reduceIte, Nat.reduceEqDiff, decide_not, Bool.not_true, Bool.not_false, b1, b2, b3, b4, w1, w6, b0, x0, hr, kX x0]
      exact ⟨_, rfl, rfl⟩
  obtain ⟨h', e1, e2⟩ := ev
  have kk : ∀ q, zK h' q = zK h q := fun q => by rw [e2]; dsimp only; by_cases x0 : X = 0 <;> simp only [x0, gd_true, ult, ubd, ukd, uwr, url, unz, uhI, uhR, uhL, upI, upR, upL, eKI, eKR, eKL, eNI, eNR, eNL, eTI, eTR, eTL, eIR, eIL, eRI, eRL, eLI, eLR, rIw, rRw, rLw, decide_true, decide_false, ne_eq, not_false_eq_true, not_true_eq_false, true_and, and_true, and_false, false_and, and_self, if_true, if_false, reduceIte, Nat.reduceEqDiff, decide_not, Bool.not_true, Bool.not_false]
  rw [← List.eraseIdx_zero, ← List.eraseIdx_zero]
  refine ⟨h', e1, w9.erase (P := 0) hi9 hN.symm rfl hX.symm kk ?_ ?_ ?_ ?_ ?_ ?_ ?_ ?_, ?_, kk, ?_⟩
  · intro q hq; rw [e2]; dsimp only; by_cases x0 : X = 0 <;> simp [x0, gd_true, ult, ubd, ukd, uwr, url, unz, uhI, uhR, uhL, upI, upR, upL, eKI, eKR, eKL, eNI, eNR, eNL, eTI, eTR, eTL, eIR, eIL, eRI, eRL, eLI, eLR, rIw, rRw, rLw, decide_true, decide_false, ne_eq, not_false_eq_true, not_true_eq_false, true_and, and_true, and_false, false_and, and_self, if_true, if_false, reduceIte, Nat.reduceEqDiff, decide_not, Bool.not_true, Bool.not_false, hq]
  · intro q hq hq2; rw [e2]; dsimp only; by_cases x0 : X = 0 <;> simp [x0, gd_true, ult, ubd, ukd, uwr, url, unz, uhI, uhR, uhL, upI, upR, upL, eKI, eKR, eKL, eNI, eNR, eNL, eTI, eTR, eTL, eIR, eIL, eRI, eRL, eLI, eLR, rIw, rRw, rLw, decide_true, decide_false, ne_eq, not_false_eq_true, not_true_eq_false, true_and, and_true, and_false, false_and, and_self, if_true, if_false, reduceIte, Nat.reduceEqDiff, decide_not, Bool.not_true, Bool.not_false, hq]
  · intro h0; exact absurd rfl h0
  · intro q hq hq2; rw [e2]; dsimp only; by_cases x0 : X = 0 <;> simp [x0, gd_true, ult, ubd, ukd, uwr, url, unz, uhI, uhR, uhL, upI, upR, upL, eKI, eKR, eKL, eNI, eNR, eNL, eTI, eTR, eTL, eIR, eIL, eRI, eRL, eLI, eLR, rIw, rRw, rLw, decide_true, decide_false, ne_eq, not_false_eq_true, not_true_eq_false, true_and, and_true, and_false, false_and, and_self, if_true, if_false, reduceIte, Nat.reduceEqDiff, decide_not, Bool.not_true, Bool.not_false, hq, hq2]
  · intro h0; rw [e2]; dsimp only; simp [h0, gd_true, ult, ubd, ukd, uwr, url, unz, uhI, uhR, uhL, upI, upR, upL, eKI, eKR, eKL, eNI, eNR, eNL, eTI, eTR, eTL, eIR, eIL, eRI, eRL, eLI, eLR, rIw, rRw, rLw, decide_true, decide_false, ne_eq, not_false_eq_true, not_true_eq_false, true_and, and_true, and_false, false_and, and_self, if_true, if_false, reduceIte, Nat.reduceEqDiff, decide_not, Bool.not_true, Bool.not_false]
  · rw [e2]; dsimp only; by_cases x0 : X = 0 <;> simp [x0, gd_true, ult, ubd, ukd, uwr, url, unz, uhI, uhR, uhL, upI, upR, upL, eKI, eKR, eKL, eNI, eNR, eNL, eTI, eTR, eTL, eIR, eIL, eRI, eRL, eLI, eLR, rIw, rRw, rLw, decide_true, decide_false, ne_eq, not_false_eq_true, not_true_eq_false, true_and, and_true, and_false, false_and, and_self, if_true, if_false, reduceIte, Nat.reduceEqDiff, decide_not, Bool.not_true, Bool.not_false]
  · rw [e2]; dsimp only; by_cases x0 : X = 0 <;> simp [x0, gd_true, ult, ubd, ukd, uwr, url, unz, uhI, uhR, uhL, upI, upR, upL, eKI, eKR, eKL, eNI, eNR, eNL, eTI, eTR, eTL, eIR, eIL, eRI, eRL, eLI, eLR, rIw, rRw, rLw, decide_true, decide_false, ne_eq, not_false_eq_true, not_true_eq_false, true_and, and_true, and_false, false_and, and_self, if_true, if_false, reduceIte, Nat.reduceEqDiff, decide_not, Bool.not_true, Bool.not_false]
  · rw [e2]; dsimp only; by_cases x0 : X = 0 <;> simp [x0, gd_true, ult, ubd, ukd, uwr, url, unz, uhI, uhR, uhL, upI, upR, upL, eKI, eKR, eKL, eNI, eNR, eNL, eTI, eTR, eTL, eIR, eIL, eRI, eRL, eLI, eLR, rIw, rRw, rLw, decide_true, decide_false, ne_eq, not_false_eq_true, not_true_eq_false, true_and, and_true, and_false, false_and, and_self, if_true, if_false, reduceIte, Nat.reduceEqDiff, decide_not, Bool.not_true, Bool.not_false]
  · rw [e2]; dsimp only
    by_cases x0 : X = 0 <;> simp only [x0, if_true, if_false] <;> repeat' (first | exact Ch.rf | refine Ch.sI ?_ (by simp) | refine Ch.sR ?_ (by simp))
  · rw [e2]; dsimp only; by_cases x0 : X = 0 <;> simp only [x0, gd_true, ult, ubd, ukd, uwr, url, unz, uhI, uhR, uhL, upI, upR, upL, eKI, eKR, eKL, eNI, eNR, eNL, eTI, eTR, eTL, eIR, eIL, eRI, eRL, eLI, eLR, rIw, rRw, rLw, decide_true, decide_false, ne_eq, not_false_eq_true, not_true_eq_false, true_and, and_true, and_false, false_and, and_self, if_true, if_false, reduceIte, Nat.reduceEqDiff, decide_not, Bool.not_true, Bool.not_false]
/-- linkLast -/
theorem ll_add {h : zH} {r l x : Nat} {xs ns : List Nat} (w : LL h r l xs ns) (hw : zWf h) (hr : r ≠ 0) (hx : xs.length + 1 < 1000000) : ∃ h', j_J6_linkLast h l x = some h' ∧ LL h' r l (xs ++ [x]) (ns ++ [zT h + 1]) ∧ Ch [(13, r), (14, r)] h h' := by
  obtain ⟨w1, w2, w3, w4, w5, w6, w7, w8⟩ := w
  have lN : ¬ l = zT h + 1 := wf_ne hw w1 (by decide)
  have hp : ∀ i, i < ns.length → ¬ ns.getD i 0 = zT h + 1 := fun i hi => wf_ne hw (w5 i hi).1 (by decide)
  have kP : zR h 13 r 3 l ≠ 0 → zK h (zR h 13 r 3 l) = (14, r) ∧ ¬ zR h 13 r 3 l = zT h + 1 ∧ ns.length ≠ 0 ∧ zR h 13 r 3 l = ns.getD (ns.length - 1) 0 := fun h0 => by
    rw [w7, cons_getD] at h0 ⊢
    split at h0
    · exact absurd rfl h0
    · rename_i hz
      rw [if_neg hz]
      exact ⟨(w5 (ns.length - 1) (by omega)).1, hp _ (by omega), hz, rfl⟩
  have k0 : zR h 13 r 3 l = 0 → ns.length = 0 := fun h0 => by
    rw [w7, cons_getD] at h0
    split at h0
    · assumption
    · exact absurd h0 (w5 (ns.length - 1) (by omega)).2.1
  generalize hN : zT h + 1 = N at *
  generalize hP : zR h 13 r 3 l = P at *
  have n0 : ¬ N = 0 := by omega
  have n0' : ¬ 0 = N := by omega
  have ev : ∃ h', j_J6_linkLast h l x = some h' ∧ h' = (let h1 := sR (sR (sR (sR (nw h 14 r 0) 14 r 0 N x) 14 r 1 N 0) 14 r 2 N P) 13 r 3 l N
      let h2 := if P = 0 then sR h1 13 r 2 l N else sR h1 14 r 1 P N
      sI (sI h2 13 r 1 l (zI h 13 r 1 l + 1)) 13 r 0 l (zI h 13 r 0 l + 1)) := by
    by_cases p0 : P = 0
    · simp only [j_J6_linkLast, j_J24_init, j_J6_linkLast_j38, gd_true, ult, ubd, ukd, uwr, url, unz, uhI, uhR, uhL, upI, upR, upL, eKI, eKR, eKL, eNI, eNR, eNL, eTI, eTR, eTL, eIR, eIL, eRI, eRL, eLI, eLR, rIw, rRw, rLw, decide_true, decide_false, ne_eq, not_false_eq_true, not_true_eq_false, true_and, and_true, and_false, false_and, and_self, if_true, if_false, reduceIte, Nat.reduceEqDiff, decide_not, Bool.not_true, Bool.not_false, zK_nw, rIn, rRn, hN, w1, hP, lN, n0, p0, hr]
      exact ⟨_, rfl, rfl⟩
    · simp only [j_J6_linkLast, j_J24_init, j_J6_linkLast_j38, gd_true, ult, ubd, ukd, uwr, url, unz, uhI, uhR, uhL, upI, upR, upL, eKI, eKR, eKL, eNI, eNR, eNL, eTI, eTR, eTL, eIR, eIL, eRI, eRL, eLI, eLR, rIw, rRw, rLw, decide_true, decide_false, ne_eq, not_false_eq_true, not_true_eq_false, true_and, and_true, and_false, false_and, and_self, if_true, if_false, reduceIte, Nat.reduceEqDiff, decide_not, Bool.not_true, Bool.not_false, zK_nw, rIn, rRn, hN, w1, hP, lN, n0, p0, hr, (kP p0).1, (kP p0).2.1]
      exact ⟨_, rfl, rfl⟩
  obtain ⟨h', e1, e2⟩ := ev
  have kk : ∀ q, q ≠ N → zK h' q = zK h q := fun q hq => by rw [e2]; dsimp only; by_cases p0 : P = 0 <;> simp only [p0, if_true, if_false] <;> simp [gd_true, ult, ubd, ukd, uwr, url, unz, uhI, uhR, uhL, upI, upR, upL, eKI, eKR, eKL, eNI, eNR, eNL, eTI, eTR, eTL, eIR, eIL, eRI, eRL, eLI, eLR, rIw, rRw, rLw, decide_true, decide_false, ne_eq, not_false_eq_true, not_true_eq_false, true_and, and_true, and_false, false_and, and_self, if_true, if_false, reduceIte, Nat.reduceEqDiff, decide_not, Bool.not_true, Bool.not_false, zK_nw, hN, hq]
  have kN : zK h' N = (14, r) := by rw [e2]; dsimp only; by_cases p0 : P = 0 <;> simp only [p0, if_true, if_false] <;> simp [gd_true, ult, ubd, ukd, uwr, url, unz, uhI, uhR, uhL, upI, upR, upL, eKI, eKR, eKL, eNI, eNR, eNL, eTI, eTR, eTL, eIR, eIL, eRI, eRL, eLI, eLR, rIw, rRw, rLw, decide_true, decide_false, ne_eq, not_false_eq_true, not_true_eq_false, true_and, and_true, and_false, false_and, and_self, if_true, if_false, reduceIte, Nat.reduceEqDiff, decide_not, Bool.not_true, Bool.not_false, zK_nw, hN]
  have i0 : zR h' 14 r 0 N = x := by rw [e2]; dsimp only; by_cases p0 : P = 0 <;> simp [p0, gd_true, ult, ubd, ukd, uwr, url, unz, uhI, uhR, uhL, upI, upR, upL, eKI, eKR, eKL, eNI, eNR, eNL, eTI, eTR, eTL, eIR, eIL, eRI, eRL, eLI, eLR, rIw, rRw, rLw, decide_true, decide_false, ne_eq, not_false_eq_true, not_true_eq_false, true_and, and_true, and_false, false_and, and_self, if_true, if_false, reduceIte, Nat.reduceEqDiff, decide_not, Bool.not_true, Bool.not_false]
  have i1 : zR h' 14 r 1 N = 0 := by
    rw [e2]; dsimp only
    by_cases p0 : P = 0
    · simp [p0, gd_true, ult, ubd, ukd, uwr, url, unz, uhI, uhR, uhL, upI, upR, upL, eKI, eKR, eKL, eNI, eNR, eNL, eTI, eTR, eTL, eIR, eIL, eRI, eRL, eLI, eLR, rIw, rRw, rLw, decide_true, decide_false, ne_eq, not_false_eq_true, not_true_eq_false, true_and, and_true, and_false, false_and, and_self, if_true, if_false, reduceIte, Nat.reduceEqDiff, decide_not, Bool.not_true, Bool.not_false]
    · have e9 : ¬ N = P := fun e => (kP p0).2.1 e.symm
      simp [p0, e9, gd_true, ult, ubd, ukd, uwr, url, unz, uhI, uhR, uhL, upI, upR, upL, eKI, eKR, eKL, eNI, eNR, eNL, eTI, eTR, eTL, eIR, eIL, eRI, eRL, eLI, eLR, rIw, rRw, rLw, decide_true, decide_false, ne_eq, not_false_eq_true, not_true_eq_false, true_and, and_true, and_false, false_and, and_self, if_true, if_false, reduceIte, Nat.reduceEqDiff, decide_not, Bool.not_true, Bool.not_false]
  have i2 : zR h' 14 r 2 N = P := by rw [e2]; dsimp only; by_cases p0 : P = 0 <;> simp [p0, gd_true, ult, ubd, ukd, uwr, url, unz, uhI, uhR, uhL, upI, upR, upL, eKI, eKR, eKL, eNI, eNR, eNL, eTI, eTR, eTL, eIR, eIL, eRI, eRL, eLI, eLR, rIw, rRw, rLw, decide_true, decide_false, ne_eq, not_false_eq_true, not_true_eq_false, true_and, and_true, and_false, false_and, and_self, if_true, if_false, reduceIte, Nat.reduceEqDiff, decide_not, Bool.not_true, Bool.not_false]
  have o0 : ∀ q, q ≠ N → zR h' 14 r 0 q = zR h 14 r 0 q := fun q hq => by rw [e2]; dsimp only; by_cases p0 : P = 0 <;> simp [p0, hq, hN, rRn, gd_true, ult, ubd, ukd, uwr, url, unz, uhI, uhR, uhL, upI, upR, upL, eKI, eKR, eKL, eNI, eNR, eNL, eTI, eTR, eTL, eIR, eIL, eRI, eRL, eLI, eLR, rIw, rRw, rLw, decide_true, decide_false, ne_eq, not_false_eq_true, not_true_eq_false, true_and, and_true, and_false, false_and, and_self, if_true, if_false, reduceIte, Nat.reduceEqDiff, decide_not, Bool.not_true, Bool.not_false]
  have o2 : ∀ q, q ≠ N → zR h' 14 r 2 q = zR h 14 r 2 q := fun q hq => by rw [e2]; dsimp only; by_cases p0 : P = 0 <;> simp [p0, hq, hN, rRn, gd_true, ult, ubd, ukd, uwr, url, unz, uhI, uhR, uhL, upI, upR, upL, eKI, eKR, eKL, eNI, eNR, eNL, eTI, eTR, eTL, eIR, eIL, eRI, eRL, eLI, eLR, rIw, rRw, rLw, decide_true, decide_false, ne_eq, not_false_eq_true, not_true_eq_false, true_and, and_true, and_false, false_and, and_self, if_true, if_false, reduceIte, Nat.reduceEqDiff, decide_not, Bool.not_true, Bool.not_false]
  have o1 : ∀ q, q ≠ N → q ≠ P → zR h' 14 r 1 q = zR h 14 r 1 q := fun q hq hq2 => by rw [e2]; dsimp only; by_cases p0 : P = 0 <;> simp [p0, hq, hq2, hN, rRn, gd_true, ult, ubd, ukd, uwr, url, unz, uhI, uhR, uhL, upI, upR, upL, eKI, eKR, eKL, eNI, eNR, eNL, eTI, eTR, eTL, eIR, eIL, eRI, eRL, eLI, eLR, rIw, rRw, rLw, decide_true, decide_false, ne_eq, not_false_eq_true, not_true_eq_false, true_and, and_true, and_false, false_and, and_self, if_true, if_false, reduceIte, Nat.reduceEqDiff, decide_not, Bool.not_true, Bool.not_false]
  have o1' : P ≠ 0 → zR h' 14 r 1 P = N := fun p0 => by rw [e2]; dsimp only; simp [p0, gd_true, ult, ubd, ukd, uwr, url, unz, uhI, uhR, uhL, upI, upR, upL, eKI, eKR, eKL, eNI, eNR, eNL, eTI, eTR, eTL, eIR, eIL, eRI, eRL, eLI, eLR, rIw, rRw, rLw, decide_true, decide_false, ne_eq, not_false_eq_true, not_true_eq_false, true_and, and_true, and_false, false_and, and_self, if_true, if_false, reduceIte, Nat.reduceEqDiff, decide_not, Bool.not_true, Bool.not_false]
  have f : zR h' 13 r 2 l = if P = 0 then N else zR h 13 r 2 l := by rw [e2]; dsimp only; by_cases p0 : P = 0 <;> simp [p0, rRn, gd_true, ult, ubd, ukd, uwr, url, unz, uhI, uhR, uhL, upI, upR, upL, eKI, eKR, eKL, eNI, eNR, eNL, eTI, eTR, eTL, eIR, eIL, eRI, eRL, eLI, eLR, rIw, rRw, rLw, decide_true, decide_false, ne_eq, not_false_eq_true, not_true_eq_false, true_and, and_true, and_false, false_and, and_self, if_true, if_false, reduceIte, Nat.reduceEqDiff, decide_not, Bool.not_true, Bool.not_false]
  have la : zR h' 13 r 3 l = N := by rw [e2]; dsimp only; by_cases p0 : P = 0 <;> simp [p0, gd_true, ult, ubd, ukd, uwr, url, unz, uhI, uhR, uhL, upI, upR, upL, eKI, eKR, eKL, eNI, eNR, eNL, eTI, eTR, eTL, eIR, eIL, eRI, eRL, eLI, eLR, rIw, rRw, rLw, decide_true, decide_false, ne_eq, not_false_eq_true, not_true_eq_false, true_and, and_true, and_false, false_and, and_self, if_true, if_false, reduceIte, Nat.reduceEqDiff, decide_not, Bool.not_true, Bool.not_false]
  have sz : zI h' 13 r 1 l = zI h 13 r 1 l + 1 := by rw [e2]; dsimp only; by_cases p0 : P = 0 <;> simp [p0, gd_true, ult, ubd, ukd, uwr, url, unz, uhI, uhR, uhL, upI, upR, upL, eKI, eKR, eKL, eNI, eNR, eNL, eTI, eTR, eTL, eIR, eIL, eRI, eRL, eLI, eLR, rIw, rRw, rLw, decide_true, decide_false, ne_eq, not_false_eq_true, not_true_eq_false, true_and, and_true, and_false, false_and, and_self, if_true, if_false, reduceIte, Nat.reduceEqDiff, decide_not, Bool.not_true, Bool.not_false]
  have ch : Ch [(13, r), (14, r)] h h' := by
    rw [e2]; dsimp only
    by_cases p0 : P = 0 <;> simp only [p0, if_true, if_false] <;> repeat' (first | exact Ch.rf | refine Ch.sI ?_ (by simp) | refine Ch.sR ?_ (by simp) | refine Ch.nw ?_ hw (by simp))
  have hmem : ∀ a, a ∈ ns → a ≠ N := fun a ha => by
    obtain ⟨i, hi, e⟩ := List.mem_iff_getElem.mp ha
    have := hp i hi
    rw [getD_lt hi] at this
    rw [← e]; exact this
  refine ⟨h', e1, ⟨by rw [kk _ lN]; exact w1, by simp [w2], ?_, by simpa using hx, fun i hi => ?_, ?_, ?_, ?_⟩, ch⟩
  · rw [List.nodup_append]
    refine ⟨w3, by simp, fun a ha b hb => ?_⟩
    rw [List.mem_singleton] at hb
    rw [hb]; exact hmem a ha
  · rw [List.length_append, List.length_singleton] at hi
    by_cases hi2 : i < ns.length
    · obtain ⟨b1, b0, b2, b3, b4⟩ := w5 i hi2
      have hne := hp i hi2
      rw [getD_app1 hi2]
      refine ⟨by rw [kk _ hne]; exact b1, b0, ?_, ?_, ?_⟩
      · rw [o0 _ hne, b2, getD_app1 (by omega)]
      · by_cases hil : i + 1 < ns.length
        · have hne2 : ns.getD i 0 ≠ P := fun z => by
            have := (kP (by rw [← z]; exact b0)).2.2.2
            rw [this] at z
            have := nd_inj w3 hi2 (by omega) z
            omega
          rw [o1 _ hne hne2, b3, getD_app1 hil]
        · have e3 : i + 1 = ns.length := by omega
          by_cases p0 : P = 0
          · have := k0 p0; omega
          · have e4 : ns.getD i 0 = P := by rw [(kP p0).2.2.2]; congr 1; omega
            rw [e4, o1' p0, e3, getD_app2]
      · rw [o2 _ hne, b4]
        have : (0 :: (ns ++ [N])).getD i 0 = ((0 :: ns) ++ [N]).getD i 0 := rfl
        rw [this, getD_app1 (by simp; omega)]
    · have e3 : i = ns.length := by omega
      subst e3
      rw [getD_app2]
      refine ⟨kN, n0, ?_, ?_, ?_⟩
      · rw [i0, w2, getD_app2]
      · rw [i1, getD_ge (by simp)]
      · rw [i2, w7]
        have : (0 :: (ns ++ [N])).getD ns.length 0 = ((0 :: ns) ++ [N]).getD ns.length 0 := rfl
        rw [this, getD_app1 (by simp)]
  · rw [f]
    by_cases p0 : P = 0
    · rw [if_pos p0]
      have := List.eq_nil_of_length_eq_zero (k0 p0)
      rw [this]; rfl
    · have := (kP p0).2.2.1
      rw [if_neg p0, w6, getD_app1 (by omega)]
  · rw [la, List.length_append, List.length_singleton]
    show N = (ns ++ [N]).getD ns.length 0
    rw [getD_app2]
  · rw [sz, w8, List.length_append, List.length_singleton, nI_succ]
theorem ll_addLast {h : zH} {r l x : Nat} {xs ns : List Nat} (w : LL h r l xs ns) (hw : zWf h) (hr : r ≠ 0) (hx : xs.length + 1 < 1000000) : ∃ h', j_J6_addLast h l x = some h' ∧ LL h' r l (xs ++ [x]) (ns ++ [zT h + 1]) ∧ Ch [(13, r), (14, r)] h h' := by
  obtain ⟨h', e, a⟩ := ll_add (x := x) w hw hr hx
  refine ⟨h', ?_, a⟩
  simp only [j_J6_addLast, gd_true, ult, ubd, ukd, uwr, url, unz, uhI, uhR, uhL, upI, upR, upL, eKI, eKR, eKL, eNI, eNR, eNL, eTI, eTR, eTL, eIR, eIL, eRI, eRL, eLI, eLR, rIw, rRw, rLw, decide_true, decide_false, ne_eq, not_false_eq_true, not_true_eq_false, true_and, and_true, and_false, false_and, and_self, if_true, if_false, reduceIte, Nat.reduceEqDiff, decide_not, Bool.not_true, Bool.not_false, w.1, e]
/-! iterators -/
def IT (h : zH) (r it l : Nat) (ns : List Nat) (i lr : Nat) : Prop := zK h it = (16, r) ∧ zR h 16 r 0 it = lr ∧ zR h 16 r 1 it = ns.getD i 0 ∧ zI h 16 r 2 it = nI i ∧ zI h 16 r 3 it = zI h 13 r 0 l ∧ zR h 16 r 4 it = l
theorem IT.keep {h h' : zH} {r it l i lr : Nat} {m : List (Nat × Nat)} {ns : List Nat} (w : IT h r it l ns i lr) (a : Ch m h h') (e1 : (13, r) ∉ m) (e2 : (16, r) ∉ m) : IT h' r it l ns i lr := by
  obtain ⟨w1, w2, w3, w4, w5, w6⟩ := w
  exact ⟨a.k w1 (by decide), by rw [a.r e2]; exact w2, by rw [a.r e2]; exact w3, by rw [a.i e2]; exact w4, by rw [a.i e2, a.i e1]; exact w5, by rw [a.r e2]; exact w6⟩
theorem it_hasNext {h : zH} {r it l i lr : Nat} {xs ns : List Nat} (w : LL h r l xs ns) (v : IT h r it l ns i lr) (hi : i ≤ xs.length) : j_J28_hasNext h it = some (h, if i < xs.length then 1 else 0) := by
  have hl := w.lt
  have e : (nI xs.length ≤ nI i) = ¬ (i < xs.length) := by rw [nI_leI (by omega) (by omega)]; exact propext ⟨fun q => by omega, fun q => by omega⟩
  simp only [j_J28_hasNext, j_J28_hasNext_j19, gd_true, ult, ubd, ukd, uwr, url, unz, uhI, uhR, uhL, upI, upR, upL, eKI, eKR, eKL, eNI, eNR, eNL, eTI, eTR, eTL, eIR, eIL, eRI, eRL, eLI, eLR, rIw, rRw, rLw, decide_true, decide_false, ne_eq, not_false_eq_true, not_true_eq_false, true_and, and_true, and_false, false_and, and_self, if_true, if_false, reduceIte, Nat.reduceEqDiff, decide_not, Bool.not_true, Bool.not_false, v.1, v.2.2.2.2.2, w.1, w.2.2.2.2.2.2.2, v.2.2.2.1, e]
  by_cases c : i < xs.length <;> simp [c, b01, gd]
theorem it_next {h : zH} {r it l i lr : Nat} {xs ns : List Nat} (w : LL h r l xs ns) (v : IT h r it l ns i lr) (hr : r ≠ 0) (hi : i < xs.length) : ∃ h', j_J28_next h it = some (h', xs.getD i 0) ∧ LL h' r l xs ns ∧ IT h' r it l ns (i + 1) (ns.getD i 0) ∧ Ch [(16, r)] h h' := by
  obtain ⟨b1, b0, b2, b3, b4⟩ := w.2.2.2.2.1 i (by rw [w.len]; exact hi)
  have e1 : j_J28_hasNext h it = some (h, 1) := by rw [it_hasNext w v (by omega), if_pos hi]
  obtain ⟨v1, v2, v3, v4, v5, v6⟩ := id v
  have e2 : j_J28_checkForComodification h it = some h := by simp only [j_J28_checkForComodification, gd_true, ult, ubd, ukd, uwr, url, unz, uhI, uhR, uhL, upI, upR, upL, eKI, eKR, eKL, eNI, eNR, eNL, eTI, eTR, eTL, eIR, eIL, eRI, eRL, eLI, eLR, rIw, rRw, rLw, decide_true, decide_false, ne_eq, not_false_eq_true, not_true_eq_false, true_and, and_true, and_false, false_and, and_self, if_true, if_false, reduceIte, Nat.reduceEqDiff, decide_not, Bool.not_true, Bool.not_false, v1, v6, w.1, v5]
  have ev : ∃ h', j_J28_next h it = some (h', xs.getD i 0) ∧ h' = sI (sR (sR h 16 r 0 it (ns.getD i 0)) 16 r 1 it (ns.getD (i + 1) 0)) 16 r 2 it (nI i + 1) := by
    simp only [j_J28_next, e1, e2, gd_true, ult, ubd, ukd, uwr, url, unz, uhI, uhR, uhL, upI, upR, upL, eKI, eKR, eKL, eNI, eNR, eNL, eTI, eTR, eTL, eIR, eIL, eRI, eRL, eLI, eLR, rIw, rRw, rLw, decide_true, decide_false, ne_eq, not_false_eq_true, not_true_eq_false, true_and, and_true, and_false, false_and, and_self, if_true, if_false, reduceIte, Nat.reduceEqDiff, decide_not, Bool.not_true, Bool.not_false, v1, v3, v4, b1, b2, b3, hr, (by decide : ¬ (1 : Int32) = 0)]
    exact ⟨_, rfl, rfl⟩
  obtain ⟨h', e3, e4⟩ := ev
  have ch : Ch [(16, r)] h h' := by rw [e4]; exact ((Ch.rf.sR (by simp)).sR (by simp)).sI (by simp)
  refine ⟨h', e3, w.keep ch (by simp) (by simp), ?_, ch⟩
  rw [e4]
  refine ⟨v1, ?_, ?_, ?_, ?_, ?_⟩
  · simp [gd_true, ult, ubd, ukd, uwr, url, unz, uhI, uhR, uhL, upI, upR, upL, eKI, eKR, eKL, eNI, eNR, eNL, eTI, eTR, eTL, eIR, eIL, eRI, eRL, eLI, eLR, rIw, rRw, rLw, decide_true, decide_false, ne_eq, not_false_eq_true, not_true_eq_false, true_and, and_true, and_false, false_and, and_self, if_true, if_false, reduceIte, Nat.reduceEqDiff, decide_not, Bool.not_true, Bool.not_false]
  · simp [gd_true, ult, ubd, ukd, uwr, url, unz, uhI, uhR, uhL, upI, upR, upL, eKI, eKR, eKL, eNI, eNR, eNL, eTI, eTR, eTL, eIR, eIL, eRI, eRL, eLI, eLR, rIw, rRw, rLw, decide_true, decide_false, ne_eq, not_false_eq_true, not_true_eq_false, true_and, and_true, and_false, false_and, and_self, if_true, if_false, reduceIte, Nat.reduceEqDiff, decide_not, Bool.not_true, Bool.not_false]
  · simp [gd_true, ult, ubd, ukd, uwr, url, unz, uhI, uhR, uhL, upI, upR, upL, eKI, eKR, eKL, eNI, eNR, eNL, eTI, eTR, eTL, eIR, eIL, eRI, eRL, eLI, eLR, rIw, rRw, rLw, decide_true, decide_false, ne_eq, not_false_eq_true, not_true_eq_false, true_and, and_true, and_false, false_and, and_self, if_true, if_false, reduceIte, Nat.reduceEqDiff, decide_not, Bool.not_true, Bool.not_false, nI_succ]
  · simp [gd_true, ult, ubd, ukd, uwr, url, unz, uhI, uhR, uhL, upI, upR, upL, eKI, eKR, eKL, eNI, eNR, eNL, eTI, eTR, eTL, eIR, eIL, eRI, eRL, eLI, eLR, rIw, rRw, rLw, decide_true, decide_false, ne_eq, not_false_eq_true, not_true_eq_false, true_and, and_true, and_false, false_and, and_self, if_true, if_false, reduceIte, Nat.reduceEqDiff, decide_not, Bool.not_true, Bool.not_false, v5]
  · simp [gd_true, ult, ubd, ukd, uwr, url, unz, uhI, uhR, uhL, upI, upR, upL, eKI, eKR, eKL, eNI, eNR, eNL, eTI, eTR, eTL, eIR, eIL, eRI, eRL, eLI, eLR, rIw, rRw, rLw, decide_true, decide_false, ne_eq, not_false_eq_true, not_true_eq_false, true_and, and_true, and_false, false_and, and_self, if_true, if_false, reduceIte, Nat.reduceEqDiff, decide_not, Bool.not_true, Bool.not_false, v6]
theorem it_remove {h : zH} {r it l i j : Nat} {xs ns : List Nat} (w : LL h r l xs ns) (v : IT h r it l ns j (ns.getD i 0)) (hr : r ≠ 0) (hi : i < xs.length) (hj : j = i + 1 ∨ j = i) : ∃ h', j_J28_remove h it = some h' ∧ LL h' r l (xs.eraseIdx i) (ns.eraseIdx i) ∧ IT h' r it l (ns.eraseIdx i) i 0 ∧ Ch [(13, r), (14, r), (16, r)] h h' := by
  have hi9 : i < ns.length := by rw [w.len]; exact hi
  obtain ⟨b1, b0, b2, b3, b4⟩ := w.2.2.2.2.1 i hi9
  obtain ⟨v1, v2, v3, v4, v5, v6⟩ := id v
  have e2 : j_J28_checkForComodification h it = some h := by simp only [j_J28_checkForComodification, gd_true, ult, ubd, ukd, uwr, url, unz, uhI, uhR, uhL, upI, upR, upL, eKI, eKR, eKL, eNI, eNR, eNL, eTI, eTR, eTL, eIR, eIL, eRI, eRL, eLI, eLR, rIw, rRw, rLw, decide_true, decide_false, ne_eq, not_false_eq_true, not_true_eq_false, true_and, and_true, and_false, false_and, and_self, if_true, if_false, reduceIte, Nat.reduceEqDiff, decide_not, Bool.not_true, Bool.not_false, v1, v6, w.1, v5]
  obtain ⟨h1, f1, f2, f3, f4, f5, f6⟩ := ll_unlink w hr hi9
  have g1 : zK h1 it = (16, r) := by rw [f5]; exact v1
  have gR : ∀ f, zR h1 16 r f it = zR h 16 r f it := fun f => by rw [f3.r (by simp)]
  have gI : ∀ f, zI h1 16 r f it = zI h 16 r f it := fun f => by rw [f3.i (by simp)]
  have nx : ¬ ns.getD (i + 1) 0 = ns.getD i 0 := by
    by_cases e0 : i + 1 < ns.length
    · intro e; have := nd_inj w.2.2.1 e0 hi9 e; omega
    · rw [getD_ge (by omega)]; exact fun e => b0 e.symm
  have en : (ns.eraseIdx i).getD i 0 = ns.getD (i + 1) 0 := by rw [getD_er, if_neg (by omega)]
  rcases hj with hj | hj
  · subst hj
    have ev : ∃ h', j_J28_remove h it = some h' ∧ h' = sI (sR (sI h1 16 r 2 it (nI (i + 1) - 1)) 16 r 0 it 0) 16 r 3 it (zI h 13 r 0 l + 1) := by
      simp only [j_J28_remove, j_J28_remove_j68, e2, gd_true, ult, ubd, ukd, uwr, url, unz, uhI, uhR, uhL, upI, upR, upL, eKI, eKR, eKL, eNI, eNR, eNL, eTI, eTR, eTL, eIR, eIL, eRI, eRL, eLI, eLR, rIw, rRw, rLw, decide_true, decide_false, ne_eq, not_false_eq_true, not_true_eq_false, true_and, and_true, and_false, false_and, and_self, if_true, if_false, reduceIte, Nat.reduceEqDiff, decide_not, Bool.not_true, Bool.not_false, v1, v2, v6, w.1, b0, b1, f1, g1, gR, gI, v3, v4, v5, hr, nx]
      exact ⟨_, rfl, rfl⟩
    obtain ⟨h', e3, e4⟩ := ev
    have ch : Ch [(13, r), (14, r), (16, r)] h1 h' := by rw [e4]; exact ((Ch.rf.sI (by simp)).sR (by simp)).sI (by simp)
    have c2 : Ch [(16, r)] h1 h' := by rw [e4]; exact ((Ch.rf.sI (by simp)).sR (by simp)).sI (by simp)
    refine ⟨h', e3, f2.keep c2 (by simp) (by simp), ?_, (f3.sub (by simp)).tr ch⟩
    rw [e4]
    refine ⟨g1, ?_, ?_, ?_, ?_, ?_⟩
    · simp [gd_true, ult, ubd, ukd, uwr, url, unz, uhI, uhR, uhL, upI, upR, upL, eKI, eKR, eKL, eNI, eNR, eNL, eTI, eTR, eTL, eIR, eIL, eRI, eRL, eLI, eLR, rIw, rRw, rLw, decide_true, decide_false, ne_eq, not_false_eq_true, not_true_eq_false, true_and, and_true, and_false, false_and, and_self, if_true, if_false, reduceIte, Nat.reduceEqDiff, decide_not, Bool.not_true, Bool.not_false]
    · simp only [gd_true, ult, ubd, ukd, uwr, url, unz, uhI, uhR, uhL, upI, upR, upL, eKI, eKR, eKL, eNI, eNR, eNL, eTI, eTR, eTL, eIR, eIL, eRI, eRL, eLI, eLR, rIw, rRw, rLw, decide_true, decide_false, ne_eq, not_false_eq_true, not_true_eq_false, true_and, and_true, and_false, false_and, and_self, if_true, if_false, reduceIte, Nat.reduceEqDiff, decide_not, Bool.not_true, Bool.not_false, gR, v3, en]
    · simp [gd_true, ult, ubd, ukd, uwr, url, unz, uhI, uhR, uhL, upI, upR, upL, eKI, eKR, eKL, eNI, eNR, eNL, eTI, eTR, eTL, eIR, eIL, eRI, eRL, eLI, eLR, rIw, rRw, rLw, decide_true, decide_false, ne_eq, not_false_eq_true, not_true_eq_false, true_and, and_true, and_false, false_and, and_self, if_true, if_false, reduceIte, Nat.reduceEqDiff, decide_not, Bool.not_true, Bool.not_false, nI_pred]
    · simp [gd_true, ult, ubd, ukd, uwr, url, unz, uhI, uhR, uhL, upI, upR, upL, eKI, eKR, eKL, eNI, eNR, eNL, eTI, eTR, eTL, eIR, eIL, eRI, eRL, eLI, eLR, rIw, rRw, rLw, decide_true, decide_false, ne_eq, not_false_eq_true, not_true_eq_false, true_and, and_true, and_false, false_and, and_self, if_true, if_false, reduceIte, Nat.reduceEqDiff, decide_not, Bool.not_true, Bool.not_false, f4]
    · simp [gd_true, ult, ubd, ukd, uwr, url, unz, uhI, uhR, uhL, upI, upR, upL, eKI, eKR, eKL, eNI, eNR, eNL, eTI, eTR, eTL, eIR, eIL, eRI, eRL, eLI, eLR, rIw, rRw, rLw, decide_true, decide_false, ne_eq, not_false_eq_true, not_true_eq_false, true_and, and_true, and_false, false_and, and_self, if_true, if_false, reduceIte, Nat.reduceEqDiff, decide_not, Bool.not_true, Bool.not_false, gR, v6]
  · rw [hj] at v v3 v4
    have ev : ∃ h', j_J28_remove h it = some h' ∧ h' = sI (sR (sR h1 16 r 1 it (ns.getD (i + 1) 0)) 16 r 0 it 0) 16 r 3 it (zI h 13 r 0 l + 1) := by
      simp only [j_J28_remove, j_J28_remove_j68, e2, gd_true, ult, ubd, ukd, uwr, url, unz, uhI, uhR, uhL, upI, upR, upL, eKI, eKR, eKL, eNI, eNR, eNL, eTI, eTR, eTL, eIR, eIL, eRI, eRL, eLI, eLR, rIw, rRw, rLw, decide_true, decide_false, ne_eq, not_false_eq_true, not_true_eq_false, true_and, and_true, and_false, false_and, and_self, if_true, if_false, reduceIte, Nat.reduceEqDiff, decide_not, Bool.not_true, Bool.not_false, v1, v2, v6, w.1, b0, b1, b3, f1, g1, gR, gI, v3, v4, v5, hr]
      exact ⟨_, rfl, rfl⟩
    obtain ⟨h', e3, e4⟩ := ev
    have ch : Ch [(13, r), (14, r), (16, r)] h1 h' := by rw [e4]; exact ((Ch.rf.sR (by simp)).sR (by simp)).sI (by simp)
    have c2 : Ch [(16, r)] h1 h' := by rw [e4]; exact ((Ch.rf.sR (by simp)).sR (by simp)).sI (by simp)
    refine ⟨h', e3, f2.keep c2 (by simp) (by simp), ?_, (f3.sub (by simp)).tr ch⟩
    rw [e4]
    refine ⟨g1, ?_, ?_, ?_, ?_, ?_⟩
    · simp only [gd_true, ult, ubd, ukd, uwr, url, unz, uhI, uhR, uhL, upI, upR, upL, eKI, eKR, eKL, eNI, eNR, eNL, eTI, eTR, eTL, eIR, eIL, eRI, eRL, eLI, eLR, rIw, rRw, rLw, decide_true, decide_false, ne_eq, not_false_eq_true, not_true_eq_false, true_and, and_true, and_false, false_and, and_self, if_true, if_false, reduceIte, Nat.reduceEqDiff, decide_not, Bool.not_true, Bool.not_false]
    · simp only [gd_true, ult, ubd, ukd, uwr, url, unz, uhI, uhR, uhL, upI, upR, upL, eKI, eKR, eKL, eNI, eNR, eNL, eTI, eTR, eTL, eIR, eIL, eRI, eRL, eLI, eLR, rIw, rRw, rLw, decide_true, decide_false, ne_eq, not_false_eq_true, not_true_eq_false, true_and, and_true, and_false, false_and, and_self, if_true, if_false, reduceIte, Nat.reduceEqDiff, decide_not, Bool.not_true, Bool.not_false, en]
    · simp [gd_true, ult, ubd, ukd, uwr, url, unz, uhI, uhR, uhL, upI, upR, upL, eKI, eKR, eKL, eNI, eNR, eNL, eTI, eTR, eTL, eIR, eIL, eRI, eRL, eLI, eLR, rIw, rRw, rLw, decide_true, decide_false, ne_eq, not_false_eq_true, not_true_eq_false, true_and, and_true, and_false, false_and, and_self, if_true, if_false, reduceIte, Nat.reduceEqDiff, decide_not, Bool.not_true, Bool.not_false, gI, v4]
    · simp [gd_true, ult, ubd, ukd, uwr, url, unz, uhI, uhR, uhL, upI, upR, upL, eKI, eKR, eKL, eNI, eNR, eNL, eTI, eTR, eTL, eIR, eIL, eRI, eRL, eLI, eLR, rIw, rRw, rLw, decide_true, decide_false, ne_eq, not_false_eq_true, not_true_eq_false, true_and, and_true, and_false, false_and, and_self, if_true, if_false, reduceIte, Nat.reduceEqDiff, decide_not, Bool.not_true, Bool.not_false, f4]
    · simp [gd_true, ult, ubd, ukd, uwr, url, unz, uhI, uhR, uhL, upI, upR, upL, eKI, eKR, eKL, eNI, eNR, eNL, eTI, eTR, eTL, eIR, eIL, eRI, eRL, eLI, eLR, rIw, rRw, rLw, decide_true, decide_false, ne_eq, not_false_eq_true, not_true_eq_false, true_and, and_true, and_false, false_and, and_self, if_true, if_false, reduceIte, Nat.reduceEqDiff, decide_not, Bool.not_true, Bool.not_false, gR, v6]
