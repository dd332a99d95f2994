/-! ARRAY DEQUES IN THE HEAP -/
set_option maxRecDepth 100000
theorem inc17 {h : zH} {x : Nat} (hx : x < 17) : j_J4_inc h (nI x) (nI 17) = some (h, nI ((x + 1) % 17)) := by
  have e : (nI x + 1 < nI 17) = (x + 1 < 17) := by rw [nI_1]; exact propext (nI_ltI (by omega) (by omega))
  unfold j_J4_inc j_J4_inc_j10
  by_cases c : x + 1 < 17
  · rw [if_pos (by rw [e]; exact c), nI_1, Nat.mod_eq_of_lt c]
  · have : x = 16 := by omega
    subst this
    rw [if_neg (by rw [e]; exact c)]
    rfl
theorem sub17d : ∀ a, a < 17 → ∀ n, n < 17 → (let v := nI ((a + n) % 17) - nI a; (0 ≤ v ∧ v = nI n) ∨ (¬ 0 ≤ v ∧ v + nI 17 = nI n)) := by decide +kernel
theorem sub17 {h : zH} {a n : Nat} (ha : a < 17) (hn : n < 17) : j_J4_sub h (nI ((a + n) % 17)) (nI a) (nI 17) = some (h, nI n) := by
  unfold j_J4_sub j_J4_sub_j12
  rw [ult]
  rcases sub17d a ha n hn with ⟨e1, e2⟩ | ⟨e1, e2⟩
  · rw [if_pos e1, e2]
  · rw [if_neg e1, ult, e2]
/-- the deque d of role r holds xs, from the place a on -/
def AD (h : zH) (r d : Nat) (xs : List Nat) (a : Nat) : Prop := zK h d = (12, r) ∧ zK h (zR h 12 r 0 d) = (205, r) ∧ zN h (zR h 12 r 0 d) = 17 ∧ a < 17 ∧ xs.length ≤ 16 ∧ zI h 12 r 1 d = nI a ∧ zI h 12 r 2 d = nI ((a + xs.length) % 17) ∧
  ∀ i, i < xs.length → zR h 205 r ((a + i) % 17) (zR h 12 r 0 d) = xs.getD i 0 ∧ xs.getD i 0 ≠ 0
theorem AD.keep {h h' : zH} {r d a : Nat} {m : List (Nat × Nat)} {xs : List Nat} (w : AD h r d xs a) (c : Ch m h h') (e1 : (12, r) ∉ m) (e2 : (205, r) ∉ m) : AD h' r d xs a := by
  obtain ⟨w1, w2, w3, w4, w5, w6, w7, w8⟩ := w
  unfold AD
  rw [c.r e1, c.i e1, c.r e2]
  exact ⟨c.k w1 (by decide), c.k w2 (by decide), by rw [c.n w2 (by decide)]; exact w3, w4, w5, w6, w7, w8⟩
theorem ix_nI {n : Nat} (h : n < 2 ^ 31) : ix (nI n) = n := nI_clamp h
theorem inb_nI {i n : Nat} (h : i < n) (hn : n < 2 ^ 31) : inb (nI i) n = true := decide_eq_true (nI_in h hn)
theorem isA_of {h : zH} {p c r : Nat} (k : zK h p = (c, r)) (h1 : 201 ≤ c) (h2 : c ≤ 208) : isA h p = true := by unfold isA; rw [k]; exact decide_eq_true ⟨h1, h2⟩
theorem oka_of {h : zH} {x c r : Nat} (k : zK h x = (c, r)) (hc : zcs.contains c = true) : oka h x = true := by unfold oka; rw [k, Bool.or_eq_true]; exact Or.inr hc
theorem oka_0 {h : zH} : oka h 0 = true := by unfold oka; rfl
theorem ad_size {h : zH} {r d a : Nat} {xs : List Nat} (w : AD h r d xs a) : j_J4_size h d = some (h, nI xs.length) := by
  obtain ⟨w1, w2, w3, w4, w5, w6, w7, w8⟩ := w
  simp only [j_J4_size, gd_true, ult, ubd, ukd, uwr, url, unz, uhI, uhR, uhL, upI, upR, upL, eKI, eKR, eKL, eNI, eNR, eNL, eTI, eTR, eTL, eIR, eIL, eRI, eRL, eLI, eLR, rIw, rRw, rLw, decide_true, decide_false, ne_eq, not_false_eq_true, not_true_eq_false, true_and, and_true, and_false, false_and, and_self, if_true, if_false, reduceIte, Nat.reduceEqDiff, decide_not, Bool.not_true, Bool.not_false, w1, isA_of w2 (by decide) (by decide), w3, w6, w7, sub17 w4 (show xs.length < 17 by omega)]
theorem ad_isEmpty {h : zH} {r d a : Nat} {xs : List Nat} (w : AD h r d xs a) : j_J4_isEmpty h d = some (h, if xs = [] then 1 else 0) := by
  obtain ⟨w1, w2, w3, w4, w5, w6, w7, w8⟩ := w
  have e : (nI a = nI ((a + xs.length) % 17)) = (xs = []) := by
    rw [nI_eq (by omega) (by omega), ← List.length_eq_zero_iff]
    exact propext ⟨fun q => by omega, fun q => by omega⟩
  simp only [j_J4_isEmpty, j_J4_isEmpty_j16, gd_true, ult, ubd, ukd, uwr, url, unz, uhI, uhR, uhL, upI, upR, upL, eKI, eKR, eKL, eNI, eNR, eNL, eTI, eTR, eTL, eIR, eIL, eRI, eRL, eLI, eLR, rIw, rRw, rLw, decide_true, decide_false, ne_eq, not_false_eq_true, not_true_eq_false, true_and, and_true, and_false, false_and, and_self, if_true, if_false, reduceIte, Nat.reduceEqDiff, decide_not, Bool.not_true, Bool.not_false, w1, w6, w7, e]
  by_cases c : xs = [] <;> simp [c, b01, gd]
theorem ad_getFirst {h : zH} {r d a : Nat} {xs : List Nat} (w : AD h r d xs a) (h0 : 0 < xs.length) : j_J4_getFirst h d = some (h, xs.getD 0 0) := by
  obtain ⟨w1, w2, w3, w4, w5, w6, w7, w8⟩ := w
  obtain ⟨b1, b2⟩ := w8 0 h0
  rw [Nat.add_zero, Nat.mod_eq_of_lt w4] at b1
  simp only [j_J4_getFirst, j_J4_elementAt, gd_true, ult, ubd, ukd, uwr, url, unz, uhI, uhR, uhL, upI, upR, upL, eKI, eKR, eKL, eNI, eNR, eNL, eTI, eTR, eTL, eIR, eIL, eRI, eRL, eLI, eLR, rIw, rRw, rLw, decide_true, decide_false, ne_eq, not_false_eq_true, not_true_eq_false, true_and, and_true, and_false, false_and, and_self, if_true, if_false, reduceIte, Nat.reduceEqDiff, decide_not, Bool.not_true, Bool.not_false, w1, w6, w2, w3, inb_nI (show a < 17 from w4) (by decide), ix_nI (show a < 2 ^ 31 by omega), b1, b2]
theorem ad_removeFirst {h : zH} {r d a : Nat} {xs : List Nat} (w : AD h r d xs a) (hr : r ≠ 0) (h0 : 0 < xs.length) : ∃ h', j_J4_removeFirst h d = some (h', xs.getD 0 0) ∧ AD h' r d xs.tail ((a + 1) % 17) ∧ Ch [(12, r), (205, r)] h h' := by
  obtain ⟨w1, w2, w3, w4, w5, w6, w7, w8⟩ := w
  obtain ⟨b1, b2⟩ := w8 0 h0
  rw [Nat.add_zero, Nat.mod_eq_of_lt w4] at b1
  have nd : ¬ zR h 12 r 0 d = d := k0_ne w2 w1 (by decide)
  have iA : ∀ S : zH, zK S (zR h 12 r 0 d) = (205, r) → isA S (zR h 12 r 0 d) = true := fun S k => isA_of k (by decide) (by decide)
  have ev : ∃ h', j_J4_removeFirst h d = some (h', xs.getD 0 0) ∧ h' = sI (sR h 205 r a (zR h 12 r 0 d) 0) 12 r 1 d (nI ((a + 1) % 17)) := by
    simp only [j_J4_removeFirst, j_J4_pollFirst, j_J4_pollFirst_j34, j_J4_elementAt, gd_true, ult, ubd, ukd, uwr, url, unz, uhI, uhR, uhL, upI, upR, upL, eKI, eKR, eKL, eNI, eNR, eNL, eTI, eTR, eTL, eIR, eIL, eRI, eRL, eLI, eLR, rIw, rRw, rLw, decide_true, decide_false, ne_eq, not_false_eq_true, not_true_eq_false, true_and, and_true, and_false, false_and, and_self, if_true, if_false, reduceIte, Nat.reduceEqDiff, decide_not, Bool.not_true, Bool.not_false, w1, w6, w2, w3, inb_nI (show a < 17 from w4) (by decide), ix_nI (show a < 2 ^ 31 by omega), b1, b2, oka_0, hr, inc17 w4, isA_of (h := sR h 205 r a (zR h 12 r 0 d) 0) (p := zR h 12 r 0 d) (c := 205) (r := r) (by rw [eKR]; exact w2) (by decide) (by decide)]
    exact ⟨_, rfl, rfl⟩
  obtain ⟨h', e1, e2⟩ := ev
  refine ⟨h', e1, ?_, by rw [e2]; exact (Ch.rf.sR (by simp)).sI (by simp)⟩
  rw [e2]
  refine ⟨by simp only [gd_true, ult, ubd, ukd, uwr, url, unz, uhI, uhR, uhL, upI, upR, upL, eKI, eKR, eKL, eNI, eNR, eNL, eTI, eTR, eTL, eIR, eIL, eRI, eRL, eLI, eLR, rIw, rRw, rLw, decide_true, decide_false, ne_eq, not_false_eq_true, not_true_eq_false, true_and, and_true, and_false, false_and, and_self, if_true, if_false, reduceIte, Nat.reduceEqDiff, decide_not, Bool.not_true, Bool.not_false]; exact w1, by simp only [gd_true, ult, ubd, ukd, uwr, url, unz, uhI, uhR, uhL, upI, upR, upL, eKI, eKR, eKL, eNI, eNR, eNL, eTI, eTR, eTL, eIR, eIL, eRI, eRL, eLI, eLR, rIw, rRw, rLw, decide_true, decide_false, ne_eq, not_false_eq_true, not_true_eq_false, true_and, and_true, and_false, false_and, and_self, if_true, if_false, reduceIte, Nat.reduceEqDiff, decide_not, Bool.not_true, Bool.not_false]; exact w2, by simp only [gd_true, ult, ubd, ukd, uwr, url, unz, uhI, uhR, uhL, upI, upR, upL, eKI, eKR, eKL, eNI, eNR, eNL, eTI, eTR, eTL, eIR, eIL, eRI, eRL, eLI, eLR, rIw, rRw, rLw, decide_true, decide_false, ne_eq, not_false_eq_true, not_true_eq_false, true_and, and_true, and_false, false_and, and_self, if_true, if_false, reduceIte, Nat.reduceEqDiff, decide_not, Bool.not_true, Bool.not_false]; exact w3, by omega, by simp; omega, by simp [gd_true, ult, ubd, ukd, uwr, url, unz, uhI, uhR, uhL, upI, upR, upL, eKI, eKR, eKL, eNI, eNR, eNL, eTI, eTR, eTL, eIR, eIL, eRI, eRL, eLI, eLR, rIw, rRw, rLw, decide_true, decide_false, ne_eq, not_false_eq_true, not_true_eq_false, true_and, and_true, and_false, false_and, and_self, if_true, if_false, reduceIte, Nat.reduceEqDiff, decide_not, Bool.not_true, Bool.not_false], ?_, fun i hi => ?_⟩
  · simp only [gd_true, ult, ubd, ukd, uwr, url, unz, uhI, uhR, uhL, upI, upR, upL, eKI, eKR, eKL, eNI, eNR, eNL, eTI, eTR, eTL, eIR, eIL, eRI, eRL, eLI, eLR, rIw, rRw, rLw, decide_true, decide_false, ne_eq, not_false_eq_true, not_true_eq_false, true_and, and_true, and_false, false_and, and_self, if_true, if_false, reduceIte, Nat.reduceEqDiff, decide_not, Bool.not_true, Bool.not_false, List.length_tail]
    rw [w7]
    congr 1
    omega
  · rw [List.length_tail] at hi
    obtain ⟨c1, c2⟩ := w8 (i + 1) (by omega)
    have e3 : xs.tail.getD i 0 = xs.getD (i + 1) 0 := by simp [List.getD]
    rw [e3]
    refine ⟨?_, c2⟩
    rw [← c1]
    have e4 : ((a + 1) % 17 + i) % 17 = (a + (i + 1)) % 17 := by omega
    simp only [gd_true, ult, ubd, ukd, uwr, url, unz, uhI, uhR, uhL, upI, upR, upL, eKI, eKR, eKL, eNI, eNR, eNL, eTI, eTR, eTL, eIR, eIL, eRI, eRL, eLI, eLR, rIw, rRw, rLw, decide_true, decide_false, ne_eq, not_false_eq_true, not_true_eq_false, true_and, and_true, and_false, false_and, and_self, if_true, if_false, reduceIte, Nat.reduceEqDiff, decide_not, Bool.not_true, Bool.not_false]
    rw [e4, if_neg (by omega)]
theorem ad_addLast {h : zH} {r d a x : Nat} {xs : List Nat} (w : AD h r d xs a) (hr : r ≠ 0) (hx : x ≠ 0) (hl : xs.length < 16) (ho : oka h x = true) : ∃ h', j_J4_addLast h d x = some h' ∧ AD h' r d (xs ++ [x]) a ∧ Ch [(12, r), (205, r)] h h' := by
  obtain ⟨w1, w2, w3, w4, w5, w6, w7, w8⟩ := w
  have ht : (a + xs.length) % 17 < 17 := Nat.mod_lt _ (by decide)
  generalize hT : (a + xs.length) % 17 = t at *
  have ne : ¬ nI a = nI ((t + 1) % 17) := fun e => by
    have := (nI_eq (by omega) (by omega)).mp e
    omega
  have ev : ∃ h', j_J4_addLast h d x = some h' ∧ h' = sI (sR h 205 r t (zR h 12 r 0 d) x) 12 r 2 d (nI ((t + 1) % 17)) := by
    simp only [j_J4_addLast, j_J4_addLast_j50, gd_true, ult, ubd, ukd, uwr, url, unz, uhI, uhR, uhL, upI, upR, upL, eKI, eKR, eKL, eNI, eNR, eNL, eTI, eTR, eTL, eIR, eIL, eRI, eRL, eLI, eLR, rIw, rRw, rLw, decide_true, decide_false, ne_eq, not_false_eq_true, not_true_eq_false, true_and, and_true, and_false, false_and, and_self, if_true, if_false, reduceIte, Nat.reduceEqDiff, decide_not, Bool.not_true, Bool.not_false, w1, w6, w7, w2, w3, hx, ho, hr, inb_nI ht (by decide), ix_nI (show t < 2 ^ 31 by omega), inc17 ht, ne, isA_of (h := sR h 205 r t (zR h 12 r 0 d) x) (p := zR h 12 r 0 d) (c := 205) (r := r) (by rw [eKR]; exact w2) (by decide) (by decide)]
    exact ⟨_, rfl, rfl⟩
  obtain ⟨h', e1, e2⟩ := ev
  refine ⟨h', e1, ?_, by rw [e2]; exact (Ch.rf.sR (by simp)).sI (by simp)⟩
  rw [e2]
  refine ⟨by simp only [gd_true, ult, ubd, ukd, uwr, url, unz, uhI, uhR, uhL, upI, upR, upL, eKI, eKR, eKL, eNI, eNR, eNL, eTI, eTR, eTL, eIR, eIL, eRI, eRL, eLI, eLR, rIw, rRw, rLw, decide_true, decide_false, ne_eq, not_false_eq_true, not_true_eq_false, true_and, and_true, and_false, false_and, and_self, if_true, if_false, reduceIte, Nat.reduceEqDiff, decide_not, Bool.not_true, Bool.not_false]; exact w1, by simp only [gd_true, ult, ubd, ukd, uwr, url, unz, uhI, uhR, uhL, upI, upR, upL, eKI, eKR, eKL, eNI, eNR, eNL, eTI, eTR, eTL, eIR, eIL, eRI, eRL, eLI, eLR, rIw, rRw, rLw, decide_true, decide_false, ne_eq, not_false_eq_true, not_true_eq_false, true_and, and_true, and_false, false_and, and_self, if_true, if_false, reduceIte, Nat.reduceEqDiff, decide_not, Bool.not_true, Bool.not_false]; exact w2, by simp only [gd_true, ult, ubd, ukd, uwr, url, unz, uhI, uhR, uhL, upI, upR, upL, eKI, eKR, eKL, eNI, eNR, eNL, eTI, eTR, eTL, eIR, eIL, eRI, eRL, eLI, eLR, rIw, rRw, rLw, decide_true, decide_false, ne_eq, not_false_eq_true, not_true_eq_false, true_and, and_true, and_false, false_and, and_self, if_true, if_false, reduceIte, Nat.reduceEqDiff, decide_not, Bool.not_true, Bool.not_false]; exact w3, w4, by simp; omega, ?_, ?_, fun i hi => ?_⟩
  · simp only [gd_true, ult, ubd, ukd, uwr, url, unz, uhI, uhR, uhL, upI, upR, upL, eKI, eKR, eKL, eNI, eNR, eNL, eTI, eTR, eTL, eIR, eIL, eRI, eRL, eLI, eLR, rIw, rRw, rLw, decide_true, decide_false, ne_eq, not_false_eq_true, not_true_eq_false, true_and, and_true, and_false, false_and, and_self, if_true, if_false, reduceIte, Nat.reduceEqDiff, decide_not, Bool.not_true, Bool.not_false]; exact w6
  · simp only [gd_true, ult, ubd, ukd, uwr, url, unz, uhI, uhR, uhL, upI, upR, upL, eKI, eKR, eKL, eNI, eNR, eNL, eTI, eTR, eTL, eIR, eIL, eRI, eRL, eLI, eLR, rIw, rRw, rLw, decide_true, decide_false, ne_eq, not_false_eq_true, not_true_eq_false, true_and, and_true, and_false, false_and, and_self, if_true, if_false, reduceIte, Nat.reduceEqDiff, decide_not, Bool.not_true, Bool.not_false, List.length_append, List.length_singleton]
    congr 1; omega
  · rw [List.length_append, List.length_singleton] at hi
    simp only [gd_true, ult, ubd, ukd, uwr, url, unz, uhI, uhR, uhL, upI, upR, upL, eKI, eKR, eKL, eNI, eNR, eNL, eTI, eTR, eTL, eIR, eIL, eRI, eRL, eLI, eLR, rIw, rRw, rLw, decide_true, decide_false, ne_eq, not_false_eq_true, not_true_eq_false, true_and, and_true, and_false, false_and, and_self, if_true, if_false, reduceIte, Nat.reduceEqDiff, decide_not, Bool.not_true, Bool.not_false]
    by_cases c : i < xs.length
    · obtain ⟨c1, c2⟩ := w8 i c
      rw [getD_app1 c, if_neg (by omega)]
      exact ⟨c1, c2⟩
    · have : i = xs.length := by omega
      subst this
      rw [getD_app2, if_pos hT]
      exact ⟨rfl, hx⟩
/-! emptied -/
theorem clear_l12 {r es : Nat} (hr : r ≠ 0) : ∀ (n i e t : Nat) (h : zH), zK h es = (205, r) → zN h es = 17 → e < 17 → ((t = e ∧ i ≤ t ∧ t < n + i) ∨ (t = 17 ∧ i ≤ 17 ∧ 18 + e < n + i)) → ∃ h', j_J4_circularClear_l12 n h es (nI i) (nI e) (nI t) = some h' ∧ Ch [(205, r)] h h' ∧ (∀ q, zK h' q = zK h q)
  | 0, i, e, t, h, hk, hn, he, hm => by omega
  | n + 1, i, e, t, h, hk, hn, he, hm => by
    show ∃ h', j_J4_circularClear_b12 (j_J4_circularClear_l12 n) h es (nI i) (nI e) (nI t) = some h' ∧ _
    have e1 : (nI t ≤ nI i) = (t ≤ i) := propext (nI_leI (by omega) (by omega))
    have e2 : (nI t = nI e) = (t = e) := propext (nI_eq (by omega) (by omega))
    unfold j_J4_circularClear_b12
    by_cases c : t ≤ i
    · rw [if_pos (by rw [e1]; exact c)]
      by_cases c2 : t = e
      · rw [if_pos (by rw [e2]; exact c2)]
        exact ⟨h, rfl, Ch.rf, fun _ => rfl⟩
      · rw [if_neg (by rw [e2]; exact c2), ← nI_0]
        exact clear_l12 hr n 0 e e h hk hn he (Or.inl ⟨rfl, by omega, by omega⟩)
    · rw [if_neg (by rw [e1]; exact c)]
      simp only [gd_true, ult, ubd, ukd, uwr, url, unz, uhI, uhR, uhL, upI, upR, upL, eKI, eKR, eKL, eNI, eNR, eNL, eTI, eTR, eTL, eIR, eIL, eRI, eRL, eLI, eLR, rIw, rRw, rLw, decide_true, decide_false, ne_eq, not_false_eq_true, not_true_eq_false, true_and, and_true, and_false, false_and, and_self, if_true, if_false, reduceIte, Nat.reduceEqDiff, decide_not, Bool.not_true, Bool.not_false, hk, hn, hr, inb_nI (show i < 17 by omega) (by decide), ix_nI (show i < 2 ^ 31 by omega), oka_0]
      rw [← nI_succ]
      obtain ⟨h', f1, f2, f3⟩ := clear_l12 hr n (i + 1) e t (sR h 205 r i es 0) (by rw [eKR]; exact hk) (by rw [eNR]; exact hn) he (by omega)
      exact ⟨h', f1, (Ch.rf.sR (by simp)).tr f2, fun q => by rw [f3, eKR]⟩
theorem ad_clear {h : zH} {r d a : Nat} {xs : List Nat} (w : AD h r d xs a) (hr : r ≠ 0) : ∃ h', j_J4_clear h d = some h' ∧ AD h' r d [] 0 ∧ Ch [(12, r), (205, r)] h h' := by
  obtain ⟨w1, w2, w3, w4, w5, w6, w7, w8⟩ := w
  have ht : (a + xs.length) % 17 < 17 := Nat.mod_lt _ (by decide)
  generalize hT : (a + xs.length) % 17 = t at *
  have e9 : (nI t < nI a) = (t < a) := propext (nI_ltI (by omega) (by omega))
  have ev : ∃ h', j_J4_circularClear h (zR h 12 r 0 d) (nI a) (nI t) = some h' ∧ Ch [(205, r)] h h' ∧ (∀ q, zK h' q = zK h q) := by
    by_cases c : t < a
    · obtain ⟨h', f1, f2, f3⟩ := clear_l12 hr 100 a t 17 h w2 w3 ht (Or.inr ⟨rfl, by omega, by omega⟩)
      refine ⟨h', ?_, f2, f3⟩
      simp only [j_J4_circularClear, j_J4_circularClear_j11, gd_true, ult, ubd, ukd, uwr, url, unz, uhI, uhR, uhL, upI, upR, upL, eKI, eKR, eKL, eNI, eNR, eNL, eTI, eTR, eTL, eIR, eIL, eRI, eRL, eLI, eLR, rIw, rRw, rLw, decide_true, decide_false, ne_eq, not_false_eq_true, not_true_eq_false, true_and, and_true, and_false, false_and, and_self, if_true, if_false, reduceIte, Nat.reduceEqDiff, decide_not, Bool.not_true, Bool.not_false, e9, c, isA_of w2 (by decide) (by decide), w3, f1]
    · obtain ⟨h', f1, f2, f3⟩ := clear_l12 hr 100 a t t h w2 w3 ht (Or.inl ⟨rfl, by omega, by omega⟩)
      refine ⟨h', ?_, f2, f3⟩
      simp only [j_J4_circularClear, j_J4_circularClear_j11, gd_true, ult, ubd, ukd, uwr, url, unz, uhI, uhR, uhL, upI, upR, upL, eKI, eKR, eKL, eNI, eNR, eNL, eTI, eTR, eTL, eIR, eIL, eRI, eRL, eLI, eLR, rIw, rRw, rLw, decide_true, decide_false, ne_eq, not_false_eq_true, not_true_eq_false, true_and, and_true, and_false, false_and, and_self, if_true, if_false, reduceIte, Nat.reduceEqDiff, decide_not, Bool.not_true, Bool.not_false, e9, c, f1]
  obtain ⟨h1, f1, f2, f3⟩ := ev
  have k1 : zK h1 d = (12, r) := by rw [f3]; exact w1
  refine ⟨sI (sI h1 12 r 2 d 0) 12 r 1 d 0, ?_, ?_, ((f2.sub (by simp)).sI (by simp)).sI (by simp)⟩
  · simp only [j_J4_clear, gd_true, ult, ubd, ukd, uwr, url, unz, uhI, uhR, uhL, upI, upR, upL, eKI, eKR, eKL, eNI, eNR, eNL, eTI, eTR, eTL, eIR, eIL, eRI, eRL, eLI, eLR, rIw, rRw, rLw, decide_true, decide_false, ne_eq, not_false_eq_true, not_true_eq_false, true_and, and_true, and_false, false_and, and_self, if_true, if_false, reduceIte, Nat.reduceEqDiff, decide_not, Bool.not_true, Bool.not_false, w1, w6, w7, f1, k1, hr]
  · have eR : zR h1 12 r = zR h 12 r := f2.r (by simp)
    refine ⟨by simp only [gd_true, ult, ubd, ukd, uwr, url, unz, uhI, uhR, uhL, upI, upR, upL, eKI, eKR, eKL, eNI, eNR, eNL, eTI, eTR, eTL, eIR, eIL, eRI, eRL, eLI, eLR, rIw, rRw, rLw, decide_true, decide_false, ne_eq, not_false_eq_true, not_true_eq_false, true_and, and_true, and_false, false_and, and_self, if_true, if_false, reduceIte, Nat.reduceEqDiff, decide_not, Bool.not_true, Bool.not_false]; exact k1, by simp only [gd_true, ult, ubd, ukd, uwr, url, unz, uhI, uhR, uhL, upI, upR, upL, eKI, eKR, eKL, eNI, eNR, eNL, eTI, eTR, eTL, eIR, eIL, eRI, eRL, eLI, eLR, rIw, rRw, rLw, decide_true, decide_false, ne_eq, not_false_eq_true, not_true_eq_false, true_and, and_true, and_false, false_and, and_self, if_true, if_false, reduceIte, Nat.reduceEqDiff, decide_not, Bool.not_true, Bool.not_false]; rw [eR, f3]; exact w2, by simp only [gd_true, ult, ubd, ukd, uwr, url, unz, uhI, uhR, uhL, upI, upR, upL, eKI, eKR, eKL, eNI, eNR, eNL, eTI, eTR, eTL, eIR, eIL, eRI, eRL, eLI, eLR, rIw, rRw, rLw, decide_true, decide_false, ne_eq, not_false_eq_true, not_true_eq_false, true_and, and_true, and_false, false_and, and_self, if_true, if_false, reduceIte, Nat.reduceEqDiff, decide_not, Bool.not_true, Bool.not_false]; rw [eR, f2.n w2 (by decide)]; exact w3, by decide, by simp, ?_, ?_, fun i hi => by simp at hi⟩
    · simp only [gd_true, ult, ubd, ukd, uwr, url, unz, uhI, uhR, uhL, upI, upR, upL, eKI, eKR, eKL, eNI, eNR, eNL, eTI, eTR, eTL, eIR, eIL, eRI, eRL, eLI, eLR, rIw, rRw, rLw, decide_true, decide_false, ne_eq, not_false_eq_true, not_true_eq_false, true_and, and_true, and_false, false_and, and_self, if_true, if_false, reduceIte, Nat.reduceEqDiff, decide_not, Bool.not_true, Bool.not_false]; rfl
    · simp only [gd_true, ult, ubd, ukd, uwr, url, unz, uhI, uhR, uhL, upI, upR, upL, eKI, eKR, eKL, eNI, eNR, eNL, eTI, eTR, eTL, eIR, eIL, eRI, eRL, eLI, eLR, rIw, rRw, rLw, decide_true, decide_false, ne_eq, not_false_eq_true, not_true_eq_false, true_and, and_true, and_false, false_and, and_self, if_true, if_false, reduceIte, Nat.reduceEqDiff, decide_not, Bool.not_true, Bool.not_false]; rfl
/-! its iterators -/
def IQ (h : zH) (r it d a i n : Nat) : Prop := zK h it = (18, r) ∧ zI h 18 r 0 it = nI ((a + i) % 17) ∧ zI h 18 r 1 it = nI (n - i) ∧ zR h 18 r 3 it = d
theorem IQ.keep {h h' : zH} {r it d a i n : Nat} {m : List (Nat × Nat)} (w : IQ h r it d a i n) (c : Ch m h h') (e1 : (18, r) ∉ m) : IQ h' r it d a i n := by
  obtain ⟨w1, w2, w3, w4⟩ := w
  exact ⟨c.k w1 (by decide), by rw [c.i e1]; exact w2, by rw [c.i e1]; exact w3, by rw [c.r e1]; exact w4⟩
theorem iq_hasNext {h : zH} {r it d a i n : Nat} (v : IQ h r it d a i n) (hn : n < 1000000) : j_J35_hasNext h it = some (h, if i < n then 1 else 0) := by
  obtain ⟨v1, v2, v3, v4⟩ := v
  have e : (nI (n - i) ≤ 0) = ¬ (i < n) := by rw [← nI_0, nI_leI (by omega) (by omega)]; exact propext ⟨fun q => by omega, fun q => by omega⟩
  simp only [j_J35_hasNext, j_J35_hasNext_j12, gd_true, ult, ubd, ukd, uwr, url, unz, uhI, uhR, uhL, upI, upR, upL, eKI, eKR, eKL, eNI, eNR, eNL, eTI, eTR, eTL, eIR, eIL, eRI, eRL, eLI, eLR, rIw, rRw, rLw, decide_true, decide_false, ne_eq, not_false_eq_true, not_true_eq_false, true_and, and_true, and_false, false_and, and_self, if_true, if_false, reduceIte, Nat.reduceEqDiff, decide_not, Bool.not_true, Bool.not_false, v1, v3, e]
  by_cases c : i < n <;> simp [c, b01, gd]
theorem iq_next {h : zH} {r it d a i : Nat} {xs : List Nat} (w : AD h r d xs a) (v : IQ h r it d a i xs.length) (hr : r ≠ 0) (hi : i < xs.length) : ∃ h', j_J35_next h it = some (h', xs.getD i 0) ∧ AD h' r d xs a ∧ IQ h' r it d a (i + 1) xs.length ∧ Ch [(18, r)] h h' := by
  obtain ⟨w1, w2, w3, w4, w5, w6, w7, w8⟩ := id w
  obtain ⟨v1, v2, v3, v4⟩ := v
  obtain ⟨b1, b2⟩ := w8 i hi
  have ht : (a + i) % 17 < 17 := Nat.mod_lt _ (by decide)
  generalize hT : (a + i) % 17 = t at *
  have e1 : 0 < nI (xs.length - i) := by rw [← nI_0]; exact nI_lt (by omega) (by omega)
  have ev : ∃ h', j_J35_next h it = some (h', xs.getD i 0) ∧ h' = sI (sI (sI h 18 r 2 it (nI t)) 18 r 0 it (nI ((t + 1) % 17))) 18 r 1 it (nI (xs.length - i) - 1) := by
    simp only [j_J35_next, j_J4_nonNullElementAt, gd_true, ult, ubd, ukd, uwr, url, unz, uhI, uhR, uhL, upI, upR, upL, eKI, eKR, eKL, eNI, eNR, eNL, eTI, eTR, eTL, eIR, eIL, eRI, eRL, eLI, eLR, rIw, rRw, rLw, decide_true, decide_false, ne_eq, not_false_eq_true, not_true_eq_false, true_and, and_true, and_false, false_and, and_self, if_true, if_false, reduceIte, Nat.reduceEqDiff, decide_not, Bool.not_true, Bool.not_false, v1, v2, v3, v4, e1, w1, w2, w3, b1, b2, hr, inb_nI ht (by decide), ix_nI (show t < 2 ^ 31 by omega), inc17 ht, isA_of (h := sI h 18 r 2 it (nI t)) (p := zR h 12 r 0 d) (c := 205) (r := r) (by rw [eKI]; exact w2) (by decide) (by decide)]
    exact ⟨_, rfl, rfl⟩
  obtain ⟨h', e3, e4⟩ := ev
  have ch : Ch [(18, r)] h h' := by rw [e4]; exact ((Ch.rf.sI (by simp)).sI (by simp)).sI (by simp)
  refine ⟨h', e3, w.keep ch (by simp) (by simp), ?_, ch⟩
  rw [e4]
  refine ⟨by simp only [gd_true, ult, ubd, ukd, uwr, url, unz, uhI, uhR, uhL, upI, upR, upL, eKI, eKR, eKL, eNI, eNR, eNL, eTI, eTR, eTL, eIR, eIL, eRI, eRL, eLI, eLR, rIw, rRw, rLw, decide_true, decide_false, ne_eq, not_false_eq_true, not_true_eq_false, true_and, and_true, and_false, false_and, and_self, if_true, if_false, reduceIte, Nat.reduceEqDiff, decide_not, Bool.not_true, Bool.not_false]; exact v1, ?_, ?_, by simp only [gd_true, ult, ubd, ukd, uwr, url, unz, uhI, uhR, uhL, upI, upR, upL, eKI, eKR, eKL, eNI, eNR, eNL, eTI, eTR, eTL, eIR, eIL, eRI, eRL, eLI, eLR, rIw, rRw, rLw, decide_true, decide_false, ne_eq, not_false_eq_true, not_true_eq_false, true_and, and_true, and_false, false_and, and_self, if_true, if_false, reduceIte, Nat.reduceEqDiff, decide_not, Bool.not_true, Bool.not_false]; exact v4⟩
  · simp only [gd_true, ult, ubd, ukd, uwr, url, unz, uhI, uhR, uhL, upI, upR, upL, eKI, eKR, eKL, eNI, eNR, eNL, eTI, eTR, eTL, eIR, eIL, eRI, eRL, eLI, eLR, rIw, rRw, rLw, decide_true, decide_false, ne_eq, not_false_eq_true, not_true_eq_false, true_and, and_true, and_false, false_and, and_self, if_true, if_false, reduceIte, Nat.reduceEqDiff, decide_not, Bool.not_true, Bool.not_false]; congr 1; omega
  · simp only [gd_true, ult, ubd, ukd, uwr, url, unz, uhI, uhR, uhL, upI, upR, upL, eKI, eKR, eKL, eNI, eNR, eNL, eTI, eTR, eTL, eIR, eIL, eRI, eRL, eLI, eLR, rIw, rRw, rLw, decide_true, decide_false, ne_eq, not_false_eq_true, not_true_eq_false, true_and, and_true, and_false, false_and, and_self, if_true, if_false, reduceIte, Nat.reduceEqDiff, decide_not, Bool.not_true, Bool.not_false]
    have : xs.length - i = (xs.length - (i + 1)) + 1 := by omega
    rw [this, nI_pred]
theorem ad_iterator {h : zH} {r d a : Nat} {xs : List Nat} (w : AD h r d xs a) (hw : zWf h) (hr : r ≠ 0) : ∃ h' it, j_J4_iterator h d = some (h', it) ∧ AD h' r d xs a ∧ IQ h' r it d a 0 xs.length ∧ Ch [(18, r)] h h' := by
  have dN : ¬ d = zT h + 1 := wf_ne hw w.1 (by decide)
  have n0 : ¬ zT h + 1 = 0 := by omega
  have c1 : Ch [(18, r)] h (sR (nw h 18 r 0) 18 r 3 (zT h + 1) d) := (Ch.rf.nw hw (by simp)).sR (by simp)
  have s1 := ad_size (w.keep c1 (by simp) (by simp))
  have ev : ∃ h', j_J4_iterator h d = some (h', zT h + 1) ∧ h' = sI (sI (sI (sR (nw h 18 r 0) 18 r 3 (zT h + 1) d) 18 r 1 (zT h + 1) (nI xs.length)) 18 r 2 (zT h + 1) (-1)) 18 r 0 (zT h + 1) (nI a) := by
    simp only [j_J4_iterator, j_J35_init, gd_true, ult, ubd, ukd, uwr, url, unz, uhI, uhR, uhL, upI, upR, upL, eKI, eKR, eKL, eNI, eNR, eNL, eTI, eTR, eTL, eIR, eIL, eRI, eRL, eLI, eLR, rIw, rRw, rLw, decide_true, decide_false, ne_eq, not_false_eq_true, not_true_eq_false, true_and, and_true, and_false, false_and, and_self, if_true, if_false, reduceIte, Nat.reduceEqDiff, decide_not, Bool.not_true, Bool.not_false, zK_nw, rIn, rRn, w.1, dN, n0, hr, s1, w.2.2.2.2.2.1]
    exact ⟨_, rfl, rfl⟩
  obtain ⟨h', e3, e4⟩ := ev
  have ch : Ch [(18, r)] h h' := by rw [e4]; exact ((c1.sI (by simp)).sI (by simp)).sI (by simp)
  refine ⟨h', zT h + 1, e3, w.keep ch (by simp) (by simp), ?_, ch⟩
  rw [e4]
  refine ⟨by simp [gd_true, ult, ubd, ukd, uwr, url, unz, uhI, uhR, uhL, upI, upR, upL, eKI, eKR, eKL, eNI, eNR, eNL, eTI, eTR, eTL, eIR, eIL, eRI, eRL, eLI, eLR, rIw, rRw, rLw, decide_true, decide_false, ne_eq, not_false_eq_true, not_true_eq_false, true_and, and_true, and_false, false_and, and_self, if_true, if_false, reduceIte, Nat.reduceEqDiff, decide_not, Bool.not_true, Bool.not_false, zK_nw], ?_, by simp [gd_true, ult, ubd, ukd, uwr, url, unz, uhI, uhR, uhL, upI, upR, upL, eKI, eKR, eKL, eNI, eNR, eNL, eTI, eTR, eTL, eIR, eIL, eRI, eRL, eLI, eLR, rIw, rRw, rLw, decide_true, decide_false, ne_eq, not_false_eq_true, not_true_eq_false, true_and, and_true, and_false, false_and, and_self, if_true, if_false, reduceIte, Nat.reduceEqDiff, decide_not, Bool.not_true, Bool.not_false], by simp [gd_true, ult, ubd, ukd, uwr, url, unz, uhI, uhR, uhL, upI, upR, upL, eKI, eKR, eKL, eNI, eNR, eNL, eTI, eTR, eTL, eIR, eIL, eRI, eRL, eLI, eLR, rIw, rRw, rLw, decide_true, decide_false, ne_eq, not_false_eq_true, not_true_eq_false, true_and, and_true, and_false, false_and, and_self, if_true, if_false, reduceIte, Nat.reduceEqDiff, decide_not, Bool.not_true, Bool.not_false]⟩
  simp only [gd_true, ult, ubd, ukd, uwr, url, unz, uhI, uhR, uhL, upI, upR, upL, eKI, eKR, eKL, eNI, eNR, eNL, eTI, eTR, eTL, eIR, eIL, eRI, eRL, eLI, eLR, rIw, rRw, rLw, decide_true, decide_false, ne_eq, not_false_eq_true, not_true_eq_false, true_and, and_true, and_false, false_and, and_self, if_true, if_false, reduceIte, Nat.reduceEqDiff, decide_not, Bool.not_true, Bool.not_false]
  rw [Nat.add_zero, Nat.mod_eq_of_lt w.2.2.2.1]
