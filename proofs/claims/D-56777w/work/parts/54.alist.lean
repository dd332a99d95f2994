/-! ARRAY LISTS, BIT SETS, BOXED INTS, TEXT IN THE HEAP -/
set_option maxRecDepth 100000
/-- the array list l of role r holds xs -/
def AL (h : zH) (e0 r l : Nat) (xs : List Nat) : Prop := zK h l = (10, r) ∧ zI h 10 r 2 l = nI xs.length ∧ xs.length < 100000 ∧ zK h e0 = (205, 0) ∧ zN h e0 = 0 ∧
  ((zR h 10 r 1 l = e0 ∧ xs = []) ∨
   (zK h (zR h 10 r 1 l) = (205, r) ∧ r ≠ 0 ∧ 0 < zN h (zR h 10 r 1 l) ∧ xs.length ≤ zN h (zR h 10 r 1 l) ∧ zN h (zR h 10 r 1 l) ≤ xs.length + xs.length / 2 + 11 ∧ zR h 10 r 1 l ≠ e0 ∧
    ∀ i, i < xs.length → zR h 205 r i (zR h 10 r 1 l) = xs.getD i 0 ∧ oka h (xs.getD i 0) = true))
theorem Ch.o {m : List (Nat × Nat)} {h h' : zH} (c : Ch m h h') {x : Nat} (g : oka h x = true) : oka h' x = true := by
  rcases oka_e g with g | g
  · rw [g]; exact oka_0
  · have h0 : (zK h x).1 ≠ 0 := by
      intro e
      rw [e] at g
      exact absurd g (by decide)
    unfold oka
    rw [(c.2.2.1 x h0).1, Bool.or_eq_true]
    exact Or.inr (List.contains_iff_mem.mpr g)
theorem AL.keep {h h' : zH} {e0 r l : Nat} {m : List (Nat × Nat)} {xs : List Nat} (w : AL h e0 r l xs) (c : Ch m h h') (e1 : (10, r) ∉ m) (e2 : (205, r) ∉ m) : AL h' e0 r l xs := by
  obtain ⟨w1, w2, w3, k0, k1, w4⟩ := w
  unfold AL
  rw [c.r e1, c.i e1, c.r e2]
  refine ⟨c.k w1 (by decide), w2, w3, c.k k0 (by decide), by rw [c.n k0 (by decide)]; exact k1, ?_⟩
  rcases w4 with ⟨a1, a2⟩ | ⟨a1, a2, a3, a4, a5, a6, a7⟩
  · exact Or.inl ⟨a1, a2⟩
  · rw [c.n a1 (by decide)]
    exact Or.inr ⟨c.k a1 (by decide), a2, a3, a4, a5, a6, fun i hi => ⟨(a7 i hi).1, c.o (a7 i hi).2⟩⟩
theorem al_size {h : zH} {e0 r l : Nat} {xs : List Nat} (w : AL h e0 r l xs) : j_J2_size h l = some (h, nI xs.length) := by
  simp only [j_J2_size, gd_true, ult, ubd, ukd, uwr, url, unz, uhI, uhR, uhL, upI, upR, upL, eKI, eKR, eKL, eNI, eNR, eNL, eTI, eTR, eTL, eIR, eIL, eRI, eRL, eLI, eLR, rIw, rRw, rLw, decide_true, decide_false, ne_eq, not_false_eq_true, not_true_eq_false, true_and, and_true, and_false, false_and, and_self, if_true, if_false, reduceIte, Nat.reduceEqDiff, decide_not, Bool.not_true, Bool.not_false, w.1, w.2.1]
theorem al_get {h : zH} {e0 r l i : Nat} {xs : List Nat} (w : AL h e0 r l xs) (hi : i < xs.length) : j_J2_get h l (nI i) = some (h, xs.getD i 0) := by
  obtain ⟨w1, w2, w3, a3, a4, w4⟩ := w
  rcases w4 with ⟨a1, a2⟩ | ⟨a1, a2, b3, b4, a5, a6, a7⟩
  · rw [a2] at hi; simp at hi
  · have e1 : ¬ nI i < 0 := nI_pos (by omega)
    have e2 : nI i < nI xs.length := nI_lt hi (by omega)
    simp only [j_J2_get, j_J29_checkIndex, j_J18_checkIndex, j_J2_elementData, gd_true, ult, ubd, ukd, uwr, url, unz, uhI, uhR, uhL, upI, upR, upL, eKI, eKR, eKL, eNI, eNR, eNL, eTI, eTR, eTL, eIR, eIL, eRI, eRL, eLI, eLR, rIw, rRw, rLw, decide_true, decide_false, ne_eq, not_false_eq_true, not_true_eq_false, true_and, and_true, and_false, false_and, and_self, if_true, if_false, reduceIte, Nat.reduceEqDiff, decide_not, Bool.not_true, Bool.not_false, w1, w2, e1, e2, a1, inb_nI (show i < zN h (zR h 10 r 1 l) by omega) (by omega), ix_nI (show i < 2 ^ 31 by omega), (a7 i hi).1]
theorem shr1 {n : Nat} (h : n < 2 ^ 31) : nI n >>> ((1 : Int32) &&& 31) = nI (n / 2) := pk_shrN h _ 1 (by decide)
theorem newLen {h : zH} {n : Nat} (h0 : 0 < n) (hn : n < 1000000) : j_J15_newLength h (nI n) (nI n + 1 - nI n) (nI n >>> ((1 : Int32) &&& 31)) = some (h, nI (n + (if n / 2 ≤ 1 then 1 else n / 2))) := by
  have e1 : nI n + 1 - nI n = nI 1 := by rw [Int32.add_comm, Int32.add_sub_cancel]; rfl
  rw [e1, shr1 (by omega)]
  have e2 : imx (nI 1) (nI (n / 2)) = nI (if n / 2 ≤ 1 then 1 else n / 2) := by
    unfold imx
    by_cases c : n / 2 ≤ 1
    · rw [if_pos c]
      by_cases c2 : nI 1 < nI (n / 2)
      · rw [if_pos c2]
        have := (nI_ltI (by omega) (by omega)).mp c2
        omega
      · rw [if_neg c2]
    · rw [if_neg c, if_pos (nI_lt (by omega) (by omega))]
  have e3 : ∀ k, k ≤ n + 1 → ¬ nI (n + k) ≤ 0 := fun k hk => nI_nle (by omega) (by omega)
  have e4 : ∀ k, k ≤ n + 1 → ¬ (2147483639 : Int32) < nI (n + k) := fun k hk q => by
    have q2 : nI 2147483639 < nI (n + k) := q
    have := (nI_ltI (by omega) (by omega)).mp q2
    omega
  simp only [j_J15_newLength, ult, e2, nI_add]
  split
  · rw [if_neg (e3 1 (by omega)), if_neg (e4 1 (by omega))]
  · rw [if_neg (e3 (n / 2) (by omega)), if_neg (e4 (n / 2) (by omega))]
theorem Ch.cpR {m : List (Nat × Nat)} {h h' : zH} (a : Ch m h h') {p q s d n c r : Nat} (hq : zK h' q = (c, r)) (e : (205, r) ∈ m) : Ch m h (cpR h' p q s d n) := ⟨a.1, fun w => a.2.1 w, a.2.2.1, fun c' s' hs => by
  obtain ⟨a1, a2, a3⟩ := a.2.2.2 c' s' hs
  refine ⟨a1, ?_, a3⟩
  rw [← a2]
  funext f x
  show (if _ then _ else _) = _
  rw [if_neg]
  rintro ⟨rfl, hr, -⟩
  rw [hq] at hr
  exact hs (by rw [hr]; exact e)⟩
theorem cK {h : zH} {p q s d n : Nat} : zK (cpR h p q s d n) = zK h := id rfl
theorem cN {h : zH} {p q s d n : Nat} : zN (cpR h p q s d n) = zN h := id rfl
theorem cI {h : zH} {p q s d n : Nat} : zI (cpR h p q s d n) = zI h := id rfl
theorem cR {h : zH} {p q s d n c' r' f' p' : Nat} : zR (cpR h p q s d n) c' r' f' p' = if c' = 205 ∧ r' = (zK h q).2 ∧ p' = q ∧ d ≤ f' ∧ f' < d + n then zR h 205 (zK h p).2 (s + (f' - d)) p else zR h c' r' f' p' := id rfl
/-- an array of objects is copied to a longer one -/
theorem copyOf_ok {h : zH} {p r n N B cm : Nat} (hk : zK h p = (205, r)) (hr : r ≠ 0) (hw : zWf h) (hn : zN h p = n) (hN : n ≤ N) (hB : N ≤ B) (hB2 : B ≤ 60000000) (ho : okc h p n = true) : ∃ h', j_J17_copyOf_3 h p (nI N) cm B = some (h', zT h + 1) ∧ Ch [(205, r)] h h' ∧ zK h' (zT h + 1) = (205, r) ∧ zN h' (zT h + 1) = N ∧ ∀ i, i < n → zR h' 205 r i (zT h + 1) = zR h 205 r i p := by
  have pN : ¬ p = zT h + 1 := wf_ne hw hk (by decide)
  have c1 : Ch [(205, r)] h (nw h 205 r N) := Ch.rf.nw hw (by simp)
  have e1 : imn (nI n) (nI N) = nI n := by
    unfold imn
    rw [if_neg (nI_nlt hN (by omega))]
  have k1 : zK (nw h 205 r N) p = (205, r) := c1.k hk (by decide)
  have n1 : zN (nw h 205 r N) p = n := by rw [c1.n hk (by decide)]; exact hn
  have kN : zK (nw h 205 r N) (zT h + 1) = (205, r) := nw_Ks
  have nN : zN (nw h 205 r N) (zT h + 1) = N := nw_Ns
  have g1 : cpk 0 (nI n) n = true := by unfold cpk; exact decide_eq_true ⟨by decide, nI_pos (by omega), by rw [ix_nI (by omega)]; show 0 + n ≤ n; omega⟩
  have g2 : cpk 0 (nI n) N = true := by unfold cpk; exact decide_eq_true ⟨by decide, nI_pos (by omega), by rw [ix_nI (by omega)]; show 0 + n ≤ N; omega⟩
  have g3 : npq p (zT h + 1) = true := decide_eq_true pN
  have g4 : okc (nw h 205 r N) p (ix 0 + ix (nI n)) = true := by
    rw [ix_nI (show n < 2 ^ 31 by omega), show ix 0 = 0 from rfl, Nat.zero_add]
    refine List.all_eq_true.mpr fun i hi => ?_
    have hi := List.mem_range.mp hi
    rw [k1]
    have h9 := okc_e ho hi
    rw [hk] at h9
    have e : zR (nw h 205 r N) 205 r i p = zR h 205 r i p := by simp [rRn, pN]
    show oka _ (zR (nw h 205 r N) 205 r i p) = true
    rw [e]
    exact c1.o h9
  have g5 : leB B = true := decide_eq_true hB2
  have g6 : asz (nI N) B = true := decide_eq_true ⟨nI_pos (by omega), by rw [nI_clamp (by omega)]; exact hB⟩
  have i1 : isA (nw h 205 r N) p = true := isA_of k1 (by decide) (by decide)
  refine ⟨cpR (nw h 205 r N) p (zT h + 1) 0 0 n, ?_, c1.cpR kN (by simp), by rw [cK]; exact kN, by rw [cN]; exact nN, fun i hi => ?_⟩
  · have e9 : (ix 0) = 0 := rfl
    rw [e9, ix_nI (show n < 2 ^ 31 by omega)] at g4
    simp only [j_J17_copyOf_3, j_J17_copyOf_4, j_J17_copyOf_4_j24, gd_true, ult, ubd, ukd, uwr, url, unz, uhI, uhR, uhL, upI, upR, upL, eKI, eKR, eKL, eNI, eNR, eNL, eTI, eTR, eTL, eIR, eIL, eRI, eRL, eLI, eLR, rIw, rRw, rLw, decide_true, decide_false, ne_eq, not_false_eq_true, not_true_eq_false, true_and, and_true, and_false, false_and, and_self, if_true, if_false, reduceIte, Nat.reduceEqDiff, decide_not, Bool.not_true, Bool.not_false, hk, g5, g6, ix_nI (show N < 2 ^ 31 by omega), i1, n1, e1, k1, kN, nN, hr, g1, g2, g3, g4, ix_nI (show n < 2 ^ 31 by omega), e9]
  · rw [cR, kN, k1, if_pos ⟨rfl, rfl, rfl, by omega, by omega⟩]
    simp [rRn, pN]
theorem al_grow {h : zH} {e0 r l B cm : Nat} {xs : List Nat} (w : AL h e0 r l xs) (hw : zWf h) (hr : r ≠ 0) (hf : xs.length = zN h (zR h 10 r 1 l)) (hB : xs.length + (if xs.length / 2 ≤ 1 then 1 else xs.length / 2) ≤ B) (hB2 : B ≤ 60000000) :
    ∃ h' a, j_J2_grow h l e0 cm B = some (h', a) ∧ Ch [(10, r), (205, r)] h h' ∧ zR h' 10 r 1 l = a ∧ zK h' a = (205, r) ∧ xs.length < zN h' a ∧ zN h' a ≤ xs.length + xs.length / 2 + 11 ∧ a ≠ e0 ∧ (∀ i, i < xs.length → zR h' 205 r i a = xs.getD i 0) ∧ zI h' 10 r 2 l = zI h 10 r 2 l := by
  obtain ⟨w1, w2, w3, a3, a4, w4⟩ := w
  rcases w4 with ⟨a1, a2⟩ | ⟨a1, a2, b3, b4, a5, a6, a7⟩
  · subst a2
    have pN : ¬ l = zT h + 1 := wf_ne hw w1 (by decide)
    have eN : ¬ e0 = zT h + 1 := wf_ne hw a3 (by decide)
    have i1 : isA h e0 = true := isA_of a3 (by decide) (by decide)
    have ev : ∃ h' a, j_J2_grow h l e0 cm B = some (h', a) ∧ h' = sR (nw h 205 r 10) 10 r 1 l (zT h + 1) ∧ a = zT h + 1 := by
      have e1 : imx (10 : Int32) (nI ([] : List Nat).length + 1) = 10 := by decide
      have e2 : asz (10 : Int32) 10 = true := by decide
      have e3 : ¬ (0 : Int32) < nI 0 := by decide
      have e4 : ix (10 : Int32) = 10 := by decide
      simp only [j_J2_grow, j_J2_grow_2, gd_true, ult, ubd, ukd, uwr, url, unz, uhI, uhR, uhL, upI, upR, upL, eKI, eKR, eKL, eNI, eNR, eNL, eTI, eTR, eTL, eIR, eIL, eRI, eRL, eLI, eLR, rIw, rRw, rLw, decide_true, decide_false, ne_eq, not_false_eq_true, not_true_eq_false, true_and, and_true, and_false, false_and, and_self, if_true, if_false, reduceIte, Nat.reduceEqDiff, decide_not, Bool.not_true, Bool.not_false, w1, w2, a1, i1, a4, e1, e2, e3, e4, zK_nw, pN, hr]
      exact ⟨_, _, rfl, rfl, rfl⟩
    obtain ⟨h', a, f1, f2, f3⟩ := ev
    refine ⟨h', a, f1, by rw [f2]; exact (Ch.rf.nw hw (by simp)).sR (by simp), ?_, ?_, ?_, ?_, by rw [f3]; exact fun e => eN e.symm, fun i hi => by simp at hi, ?_⟩
    · rw [f2, f3]; simp [gd_true, ult, ubd, ukd, uwr, url, unz, uhI, uhR, uhL, upI, upR, upL, eKI, eKR, eKL, eNI, eNR, eNL, eTI, eTR, eTL, eIR, eIL, eRI, eRL, eLI, eLR, rIw, rRw, rLw, decide_true, decide_false, ne_eq, not_false_eq_true, not_true_eq_false, true_and, and_true, and_false, false_and, and_self, if_true, if_false, reduceIte, Nat.reduceEqDiff, decide_not, Bool.not_true, Bool.not_false]
    · rw [f2, f3]; simp [gd_true, ult, ubd, ukd, uwr, url, unz, uhI, uhR, uhL, upI, upR, upL, eKI, eKR, eKL, eNI, eNR, eNL, eTI, eTR, eTL, eIR, eIL, eRI, eRL, eLI, eLR, rIw, rRw, rLw, decide_true, decide_false, ne_eq, not_false_eq_true, not_true_eq_false, true_and, and_true, and_false, false_and, and_self, if_true, if_false, reduceIte, Nat.reduceEqDiff, decide_not, Bool.not_true, Bool.not_false, zK_nw]
    · rw [f2, f3]; simp [gd_true, ult, ubd, ukd, uwr, url, unz, uhI, uhR, uhL, upI, upR, upL, eKI, eKR, eKL, eNI, eNR, eNL, eTI, eTR, eTL, eIR, eIL, eRI, eRL, eLI, eLR, rIw, rRw, rLw, decide_true, decide_false, ne_eq, not_false_eq_true, not_true_eq_false, true_and, and_true, and_false, false_and, and_self, if_true, if_false, reduceIte, Nat.reduceEqDiff, decide_not, Bool.not_true, Bool.not_false, zN_nw]
    · rw [f2, f3]; simp [gd_true, ult, ubd, ukd, uwr, url, unz, uhI, uhR, uhL, upI, upR, upL, eKI, eKR, eKL, eNI, eNR, eNL, eTI, eTR, eTL, eIR, eIL, eRI, eRL, eLI, eLR, rIw, rRw, rLw, decide_true, decide_false, ne_eq, not_false_eq_true, not_true_eq_false, true_and, and_true, and_false, false_and, and_self, if_true, if_false, reduceIte, Nat.reduceEqDiff, decide_not, Bool.not_true, Bool.not_false, zN_nw]
    · rw [f2]; simp [gd_true, ult, ubd, ukd, uwr, url, unz, uhI, uhR, uhL, upI, upR, upL, eKI, eKR, eKL, eNI, eNR, eNL, eTI, eTR, eTL, eIR, eIL, eRI, eRL, eLI, eLR, rIw, rRw, rLw, decide_true, decide_false, ne_eq, not_false_eq_true, not_true_eq_false, true_and, and_true, and_false, false_and, and_self, if_true, if_false, reduceIte, Nat.reduceEqDiff, decide_not, Bool.not_true, Bool.not_false, rIn]
  · have hN : xs.length + (if xs.length / 2 ≤ 1 then 1 else xs.length / 2) ≤ B := hB
    obtain ⟨h1, f1, f2, f3, f4, f5⟩ := copyOf_ok (cm := cm) a1 hr hw hf.symm (N := xs.length + (if xs.length / 2 ≤ 1 then 1 else xs.length / 2)) (by omega) hN hB2 (List.all_eq_true.mpr fun i hi => by
      have hi := List.mem_range.mp hi
      rw [a1]
      show oka h (zR h 205 r i _) = true
      rw [(a7 i hi).1]; exact (a7 i hi).2)
    have i1 : isA h (zR h 10 r 1 l) = true := isA_of a1 (by decide) (by decide)
    have e1 : (0 : Int32) < nI xs.length := by rw [← nI_0]; exact nI_lt (by omega) (by omega)
    have k1 : zK h1 l = (10, r) := f2.k w1 (by decide)
    have ev : ∃ h', j_J2_grow h l e0 cm B = some (h', zT h + 1) ∧ h' = sR h1 10 r 1 l (zT h + 1) := by
      simp only [j_J2_grow, j_J2_grow_2, j_J2_grow_2_j20, gd_true, ult, ubd, ukd, uwr, url, unz, uhI, uhR, uhL, upI, upR, upL, eKI, eKR, eKL, eNI, eNR, eNL, eTI, eTR, eTL, eIR, eIL, eRI, eRL, eLI, eLR, rIw, rRw, rLw, decide_true, decide_false, ne_eq, not_false_eq_true, not_true_eq_false, true_and, and_true, and_false, false_and, and_self, if_true, if_false, reduceIte, Nat.reduceEqDiff, decide_not, Bool.not_true, Bool.not_false, w1, w2, i1, ← hf, e1, newLen (h := h) (n := xs.length) (by omega) (by omega), f1, k1, hr]
      exact ⟨_, rfl, rfl⟩
    obtain ⟨h', g1, g2⟩ := ev
    refine ⟨h', zT h + 1, g1, by rw [g2]; exact (f2.sub (by simp)).sR (by simp), by rw [g2]; simp [gd_true, ult, ubd, ukd, uwr, url, unz, uhI, uhR, uhL, upI, upR, upL, eKI, eKR, eKL, eNI, eNR, eNL, eTI, eTR, eTL, eIR, eIL, eRI, eRL, eLI, eLR, rIw, rRw, rLw, decide_true, decide_false, ne_eq, not_false_eq_true, not_true_eq_false, true_and, and_true, and_false, false_and, and_self, if_true, if_false, reduceIte, Nat.reduceEqDiff, decide_not, Bool.not_true, Bool.not_false], by rw [g2]; simp only [gd_true, ult, ubd, ukd, uwr, url, unz, uhI, uhR, uhL, upI, upR, upL, eKI, eKR, eKL, eNI, eNR, eNL, eTI, eTR, eTL, eIR, eIL, eRI, eRL, eLI, eLR, rIw, rRw, rLw, decide_true, decide_false, ne_eq, not_false_eq_true, not_true_eq_false, true_and, and_true, and_false, false_and, and_self, if_true, if_false, reduceIte, Nat.reduceEqDiff, decide_not, Bool.not_true, Bool.not_false]; exact f3, by rw [g2]; simp only [gd_true, ult, ubd, ukd, uwr, url, unz, uhI, uhR, uhL, upI, upR, upL, eKI, eKR, eKL, eNI, eNR, eNL, eTI, eTR, eTL, eIR, eIL, eRI, eRL, eLI, eLR, rIw, rRw, rLw, decide_true, decide_false, ne_eq, not_false_eq_true, not_true_eq_false, true_and, and_true, and_false, false_and, and_self, if_true, if_false, reduceIte, Nat.reduceEqDiff, decide_not, Bool.not_true, Bool.not_false]; rw [f4]; split <;> omega, by rw [g2]; simp only [gd_true, ult, ubd, ukd, uwr, url, unz, uhI, uhR, uhL, upI, upR, upL, eKI, eKR, eKL, eNI, eNR, eNL, eTI, eTR, eTL, eIR, eIL, eRI, eRL, eLI, eLR, rIw, rRw, rLw, decide_true, decide_false, ne_eq, not_false_eq_true, not_true_eq_false, true_and, and_true, and_false, false_and, and_self, if_true, if_false, reduceIte, Nat.reduceEqDiff, decide_not, Bool.not_true, Bool.not_false]; rw [f4]; split <;> omega, ?_, fun i hi => ?_, ?_⟩
    · exact fun e => wf_ne hw a3 (by decide) e.symm
    · rw [g2]; simp only [gd_true, ult, ubd, ukd, uwr, url, unz, uhI, uhR, uhL, upI, upR, upL, eKI, eKR, eKL, eNI, eNR, eNL, eTI, eTR, eTL, eIR, eIL, eRI, eRL, eLI, eLR, rIw, rRw, rLw, decide_true, decide_false, ne_eq, not_false_eq_true, not_true_eq_false, true_and, and_true, and_false, false_and, and_self, if_true, if_false, reduceIte, Nat.reduceEqDiff, decide_not, Bool.not_true, Bool.not_false]; rw [f5 i hi]; exact (a7 i hi).1
    · rw [g2]; simp only [gd_true, ult, ubd, ukd, uwr, url, unz, uhI, uhR, uhL, upI, upR, upL, eKI, eKR, eKL, eNI, eNR, eNL, eTI, eTR, eTL, eIR, eIL, eRI, eRL, eLI, eLR, rIw, rRw, rLw, decide_true, decide_false, ne_eq, not_false_eq_true, not_true_eq_false, true_and, and_true, and_false, false_and, and_self, if_true, if_false, reduceIte, Nat.reduceEqDiff, decide_not, Bool.not_true, Bool.not_false]; rw [f2.i (by simp)]
theorem al_add {h : zH} {e0 r l B cm x : Nat} {xs : List Nat} (w : AL h e0 r l xs) (hw : zWf h) (hr : r ≠ 0) (hl : xs.length + 1 < 100000) (hB : xs.length + (if xs.length / 2 ≤ 1 then 1 else xs.length / 2) ≤ B) (hB2 : B ≤ 60000000) (hx : oka h x = true) :
    ∃ h', j_J2_add h l x e0 cm B = some (h', 1) ∧ AL h' e0 r l (xs ++ [x]) ∧ Ch [(10, r), (205, r)] h h' := by
  have c0 : Ch [(10, r), (205, r)] h (sI h 10 r 0 l (zI h 10 r 0 l + 1)) := Ch.rf.sI (by simp)
  have w' : AL (sI h 10 r 0 l (zI h 10 r 0 l + 1)) e0 r l xs := by
    obtain ⟨w1, w2, w3, a3, a4, w4⟩ := w
    unfold AL
    simp only [gd_true, ult, ubd, ukd, uwr, url, unz, uhI, uhR, uhL, upI, upR, upL, eKI, eKR, eKL, eNI, eNR, eNL, eTI, eTR, eTL, eIR, eIL, eRI, eRL, eLI, eLR, rIw, rRw, rLw, decide_true, decide_false, ne_eq, not_false_eq_true, not_true_eq_false, true_and, and_true, and_false, false_and, and_self, if_true, if_false, reduceIte, Nat.reduceEqDiff, decide_not, Bool.not_true, Bool.not_false]
    refine ⟨w1, w2, w3, a3, a4, ?_⟩
    rcases w4 with w4 | ⟨a1, a2, b3, b4, a5, a6, a7⟩
    · exact Or.inl w4
    · exact Or.inr ⟨a1, a2, b3, b4, a5, a6, fun i hi => ⟨(a7 i hi).1, c0.o (a7 i hi).2⟩⟩
  have hw' := c0.wf hw
  have hx' := c0.o hx
  have w1 := w.1
  have fin : ∀ (S : zH) (a : Nat), Ch [(10, r), (205, r)] h S → zK S l = (10, r) → zR S 10 r 1 l = a → zK S a = (205, r) → xs.length < zN S a → zN S a ≤ xs.length + xs.length / 2 + 11 → a ≠ e0 → (∀ i, i < xs.length → zR S 205 r i a = xs.getD i 0) → zI S 10 r 2 l = nI xs.length →
      ∃ h', j_J2_add_2_j11 S e0 cm B l x a (nI xs.length) = some h' ∧ AL h' e0 r l (xs ++ [x]) ∧ Ch [(10, r), (205, r)] h h' := by
    intro S a cS kS ra ka n1 n2 ne rd sz
    have n3 : zN S a < 2 ^ 31 := by omega
    refine ⟨sI (sR S 205 r xs.length a x) 10 r 2 l (nI xs.length + 1), ?_, ?_, (cS.sR (by simp)).sI (by simp)⟩
    · simp only [j_J2_add_2_j11, gd_true, ult, ubd, ukd, uwr, url, unz, uhI, uhR, uhL, upI, upR, upL, eKI, eKR, eKL, eNI, eNR, eNL, eTI, eTR, eTL, eIR, eIL, eRI, eRL, eLI, eLR, rIw, rRw, rLw, decide_true, decide_false, ne_eq, not_false_eq_true, not_true_eq_false, true_and, and_true, and_false, false_and, and_self, if_true, if_false, reduceIte, Nat.reduceEqDiff, decide_not, Bool.not_true, Bool.not_false, kS, ka, hr, inb_nI n1 n3, ix_nI (show xs.length < 2 ^ 31 by omega), cS.o hx]
    · have cf : Ch [(10, r), (205, r)] S (sI (sR S 205 r xs.length a x) 10 r 2 l (nI xs.length + 1)) := (Ch.rf.sR (by simp)).sI (by simp)
      unfold AL
      simp only [gd_true, ult, ubd, ukd, uwr, url, unz, uhI, uhR, uhL, upI, upR, upL, eKI, eKR, eKL, eNI, eNR, eNL, eTI, eTR, eTL, eIR, eIL, eRI, eRL, eLI, eLR, rIw, rRw, rLw, decide_true, decide_false, ne_eq, not_false_eq_true, not_true_eq_false, true_and, and_true, and_false, false_and, and_self, if_true, if_false, reduceIte, Nat.reduceEqDiff, decide_not, Bool.not_true, Bool.not_false, List.length_append, List.length_singleton]
      refine ⟨kS, by rw [nI_succ], hl, cS.k w.2.2.2.1 (by decide), by rw [cS.n w.2.2.2.1 (by decide)]; exact w.2.2.2.2.1, Or.inr ⟨by rw [ra]; exact ka, hr, by rw [ra]; omega, by rw [ra]; omega, by rw [ra]; omega, by rw [ra]; exact ne, fun i hi => ?_⟩⟩
      rw [ra]
      by_cases c : i < xs.length
      · rw [getD_app1 c, if_neg (by omega)]
        refine ⟨rd i c, cf.o (cS.o ?_)⟩
        rcases w.2.2.2.2.2 with ⟨-, w4⟩ | ⟨a1, a2, b3, b4, a5, a6, a7⟩
        · rw [w4] at c; simp at c
        · exact (a7 i c).2
      · have : i = xs.length := by omega
        subst this
        rw [getD_app2, if_pos ⟨rfl, rfl⟩]
        exact ⟨rfl, cf.o (cS.o hx)⟩
  have hgen : ∃ h', j_J2_add_2 (sI h 10 r 0 l (zI h 10 r 0 l + 1)) l x (zR h 10 r 1 l) (nI xs.length) e0 cm B = some h' ∧ AL h' e0 r l (xs ++ [x]) ∧ Ch [(10, r), (205, r)] h h' := by
    have rR : zR (sI h 10 r 0 l (zI h 10 r 0 l + 1)) 10 r 1 l = zR h 10 r 1 l := by rw [eRI]
    have nN : zN (sI h 10 r 0 l (zI h 10 r 0 l + 1)) = zN h := eNI
    have kK : zK (sI h 10 r 0 l (zI h 10 r 0 l + 1)) = zK h := eKI
    have i1 : isA (sI h 10 r 0 l (zI h 10 r 0 l + 1)) (zR h 10 r 1 l) = true := by
      rcases w.2.2.2.2.2 with ⟨w4, -⟩ | ⟨a1, -⟩
      · rw [w4]; exact isA_of (c := 205) (by rw [eKI]; exact w.2.2.2.1) (by decide) (by decide)
      · exact isA_of (c := 205) (by rw [eKI]; exact a1) (by decide) (by decide)
    have nb : zN h (zR h 10 r 1 l) < 2 ^ 31 := by
      rcases w.2.2.2.2.2 with ⟨w4, -⟩ | ⟨a1, a2, b3, b4, a5, a6, a7⟩
      · rw [w4, w.2.2.2.2.1]; decide
      · omega
    have e1 : (nI xs.length = nI (zN h (zR h 10 r 1 l))) = (xs.length = zN h (zR h 10 r 1 l)) := propext (nI_eq (by omega) nb)
    by_cases c : xs.length = zN h (zR h 10 r 1 l)
    · obtain ⟨h1, a, f1, f2, f3, f4, f5, f6, f7, f8, f9⟩ := al_grow (cm := cm) w' hw' hr (by rw [rR, nN]; exact c) hB hB2
      have c2 : Ch [(10, r), (205, r)] h h1 := c0.tr f2
      obtain ⟨h', g1, g2, g3⟩ := fin h1 a c2 (c2.k w1 (by decide)) f3 f4 f5 f6 f7 f8 (by rw [f9]; simp only [gd_true, ult, ubd, ukd, uwr, url, unz, uhI, uhR, uhL, upI, upR, upL, eKI, eKR, eKL, eNI, eNR, eNL, eTI, eTR, eTL, eIR, eIL, eRI, eRL, eLI, eLR, rIw, rRw, rLw, decide_true, decide_false, ne_eq, not_false_eq_true, not_true_eq_false, true_and, and_true, and_false, false_and, and_self, if_true, if_false, reduceIte, Nat.reduceEqDiff, decide_not, Bool.not_true, Bool.not_false]; exact w.2.1)
      refine ⟨h', ?_, g2, g3⟩
      simp only [j_J2_add_2, ult, ubd, gd_true, nN, i1, if_pos c, e1, ukd, kK, w1, decide_true, f1]
      exact g1
    · rcases w.2.2.2.2.2 with ⟨w4, w5⟩ | ⟨a1, a2, b3, b4, a5, a6, a7⟩
      · rw [w4, w.2.2.2.2.1, w5] at c; exact absurd rfl c
      · obtain ⟨h', g1, g2, g3⟩ := fin _ (zR h 10 r 1 l) c0 (by rw [kK]; exact w1) rR (by rw [kK]; exact a1) (by rw [nN]; omega) (by rw [nN]; omega) a6 (fun i hi => by rw [eRI]; exact (a7 i hi).1) (by simp only [gd_true, ult, ubd, ukd, uwr, url, unz, uhI, uhR, uhL, upI, upR, upL, eKI, eKR, eKL, eNI, eNR, eNL, eTI, eTR, eTL, eIR, eIL, eRI, eRL, eLI, eLR, rIw, rRw, rLw, decide_true, decide_false, ne_eq, not_false_eq_true, not_true_eq_false, true_and, and_true, and_false, false_and, and_self, if_true, if_false, reduceIte, Nat.reduceEqDiff, decide_not, Bool.not_true, Bool.not_false]; exact w.2.1)
        refine ⟨h', ?_, g2, g3⟩
        simp only [j_J2_add_2, ult, ubd, gd_true, nN, i1, if_neg c, e1]
        exact g1
  obtain ⟨h', g1, g2, g3⟩ := hgen
  refine ⟨h', ?_, g2, g3⟩
  simp only [j_J2_add, gd_true, ult, ubd, ukd, uwr, url, unz, uhI, uhR, uhL, upI, upR, upL, eKI, eKR, eKL, eNI, eNR, eNL, eTI, eTR, eTL, eIR, eIL, eRI, eRL, eLI, eLR, rIw, rRw, rLw, decide_true, decide_false, ne_eq, not_false_eq_true, not_true_eq_false, true_and, and_true, and_false, false_and, and_self, if_true, if_false, reduceIte, Nat.reduceEqDiff, decide_not, Bool.not_true, Bool.not_false, w1, hr, w.2.1, g1]
/-! its iterators -/
def IA (h : zH) (r it l i : Nat) : Prop := zK h it = (15, r) ∧ zI h 15 r 0 it = nI i ∧ zI h 15 r 2 it = zI h 10 r 0 l ∧ zR h 15 r 3 it = l
theorem IA.keep {h h' : zH} {r it l i : Nat} {m : List (Nat × Nat)} (w : IA h r it l i) (c : Ch m h h') (e1 : (15, r) ∉ m) (e2 : (10, r) ∉ m) : IA h' r it l i := by
  obtain ⟨w1, w2, w3, w4⟩ := w
  exact ⟨c.k w1 (by decide), by rw [c.i e1]; exact w2, by rw [c.i e1, c.i e2]; exact w3, by rw [c.r e1]; exact w4⟩
theorem ia_hasNext {h : zH} {e0 r it l i : Nat} {xs : List Nat} (w : AL h e0 r l xs) (v : IA h r it l i) (hi : i ≤ xs.length) : j_J26_hasNext h it = some (h, if i < xs.length then 1 else 0) := by
  obtain ⟨v1, v2, v3, v4⟩ := v
  have h3 := w.2.2.1
  have e : (nI i = nI xs.length) = ¬ (i < xs.length) := by rw [nI_eq (by omega) (by omega)]; exact propext ⟨fun q => by omega, fun q => by omega⟩
  simp only [j_J26_hasNext, j_J26_hasNext_j19, gd_true, ult, ubd, ukd, uwr, url, unz, uhI, uhR, uhL, upI, upR, upL, eKI, eKR, eKL, eNI, eNR, eNL, eTI, eTR, eTL, eIR, eIL, eRI, eRL, eLI, eLR, rIw, rRw, rLw, decide_true, decide_false, ne_eq, not_false_eq_true, not_true_eq_false, true_and, and_true, and_false, false_and, and_self, if_true, if_false, reduceIte, Nat.reduceEqDiff, decide_not, Bool.not_true, Bool.not_false, v1, v2, v4, w.1, w.2.1, e]
  by_cases c : i < xs.length <;> simp [c, b01, gd]
theorem ia_next {h : zH} {e0 r it l i : Nat} {xs : List Nat} (w : AL h e0 r l xs) (v : IA h r it l i) (hr : r ≠ 0) (hi : i < xs.length) : ∃ h', j_J26_next h it = some (h', xs.getD i 0) ∧ AL h' e0 r l xs ∧ IA h' r it l (i + 1) ∧ Ch [(15, r)] h h' := by
  obtain ⟨v1, v2, v3, v4⟩ := v
  have h3 := w.2.2.1
  have e2 : j_J26_checkForComodification h it = some h := by simp only [j_J26_checkForComodification, gd_true, ult, ubd, ukd, uwr, url, unz, uhI, uhR, uhL, upI, upR, upL, eKI, eKR, eKL, eNI, eNR, eNL, eTI, eTR, eTL, eIR, eIL, eRI, eRL, eLI, eLR, rIw, rRw, rLw, decide_true, decide_false, ne_eq, not_false_eq_true, not_true_eq_false, true_and, and_true, and_false, false_and, and_self, if_true, if_false, reduceIte, Nat.reduceEqDiff, decide_not, Bool.not_true, Bool.not_false, v1, v4, w.1, v3]
  rcases w.2.2.2.2.2 with ⟨-, w4⟩ | ⟨a1, a2, b3, b4, a5, a6, a7⟩
  · rw [w4] at hi; simp at hi
  · have e3 : nI i < nI xs.length := nI_lt hi (by omega)
    have e4 : nI i < nI (zN h (zR h 10 r 1 l)) := nI_lt (by omega) (by omega)
    have i1 : ∀ S : zH, zK S = zK h → isA S (zR h 10 r 1 l) = true := fun S e => isA_of (c := 205) (by rw [e]; exact a1) (by decide) (by decide)
    have ev : ∃ h', j_J26_next h it = some (h', xs.getD i 0) ∧ h' = sI (sI h 15 r 0 it (nI i + 1)) 15 r 1 it (nI i) := by
      simp only [j_J26_next, e2, gd_true, ult, ubd, ukd, uwr, url, unz, uhI, uhR, uhL, upI, upR, upL, eKI, eKR, eKL, eNI, eNR, eNL, eTI, eTR, eTL, eIR, eIL, eRI, eRL, eLI, eLR, rIw, rRw, rLw, decide_true, decide_false, ne_eq, not_false_eq_true, not_true_eq_false, true_and, and_true, and_false, false_and, and_self, if_true, if_false, reduceIte, Nat.reduceEqDiff, decide_not, Bool.not_true, Bool.not_false, v1, v2, v4, w.1, w.2.1, e3, e4, i1 h rfl, a1, hr, inb_nI (show i < zN h (zR h 10 r 1 l) by omega) (by omega), ix_nI (show i < 2 ^ 31 by omega), (a7 i hi).1]
      exact ⟨_, rfl, rfl⟩
    obtain ⟨h', f1, f2⟩ := ev
    have ch : Ch [(15, r)] h h' := by rw [f2]; exact (Ch.rf.sI (by simp)).sI (by simp)
    refine ⟨h', f1, w.keep ch (by simp) (by simp), ?_, ch⟩
    rw [f2]
    refine ⟨by simp only [gd_true, ult, ubd, ukd, uwr, url, unz, uhI, uhR, uhL, upI, upR, upL, eKI, eKR, eKL, eNI, eNR, eNL, eTI, eTR, eTL, eIR, eIL, eRI, eRL, eLI, eLR, rIw, rRw, rLw, decide_true, decide_false, ne_eq, not_false_eq_true, not_true_eq_false, true_and, and_true, and_false, false_and, and_self, if_true, if_false, reduceIte, Nat.reduceEqDiff, decide_not, Bool.not_true, Bool.not_false]; exact v1, by simp only [gd_true, ult, ubd, ukd, uwr, url, unz, uhI, uhR, uhL, upI, upR, upL, eKI, eKR, eKL, eNI, eNR, eNL, eTI, eTR, eTL, eIR, eIL, eRI, eRL, eLI, eLR, rIw, rRw, rLw, decide_true, decide_false, ne_eq, not_false_eq_true, not_true_eq_false, true_and, and_true, and_false, false_and, and_self, if_true, if_false, reduceIte, Nat.reduceEqDiff, decide_not, Bool.not_true, Bool.not_false]; rw [nI_succ], by simp only [gd_true, ult, ubd, ukd, uwr, url, unz, uhI, uhR, uhL, upI, upR, upL, eKI, eKR, eKL, eNI, eNR, eNL, eTI, eTR, eTL, eIR, eIL, eRI, eRL, eLI, eLR, rIw, rRw, rLw, decide_true, decide_false, ne_eq, not_false_eq_true, not_true_eq_false, true_and, and_true, and_false, false_and, and_self, if_true, if_false, reduceIte, Nat.reduceEqDiff, decide_not, Bool.not_true, Bool.not_false]; exact v3, by simp only [gd_true, ult, ubd, ukd, uwr, url, unz, uhI, uhR, uhL, upI, upR, upL, eKI, eKR, eKL, eNI, eNR, eNL, eTI, eTR, eTL, eIR, eIL, eRI, eRL, eLI, eLR, rIw, rRw, rLw, decide_true, decide_false, ne_eq, not_false_eq_true, not_true_eq_false, true_and, and_true, and_false, false_and, and_self, if_true, if_false, reduceIte, Nat.reduceEqDiff, decide_not, Bool.not_true, Bool.not_false]; exact v4⟩
theorem al_iterator {h : zH} {e0 r l : Nat} {xs : List Nat} (w : AL h e0 r l xs) (hw : zWf h) (hr : r ≠ 0) : ∃ h' it, j_J2_iterator h l = some (h', it) ∧ AL h' e0 r l xs ∧ IA h' r it l 0 ∧ Ch [(15, r)] h h' := by
  have dN : ¬ l = zT h + 1 := wf_ne hw w.1 (by decide)
  have n0 : ¬ zT h + 1 = 0 := by omega
  have ev : ∃ h', j_J2_iterator h l = some (h', zT h + 1) ∧ h' = sI (sI (sR (nw h 15 r 0) 15 r 3 (zT h + 1) l) 15 r 1 (zT h + 1) (-1)) 15 r 2 (zT h + 1) (zI h 10 r 0 l) := by
    simp only [j_J2_iterator, j_J26_init, gd_true, ult, ubd, ukd, uwr, url, unz, uhI, uhR, uhL, upI, upR, upL, eKI, eKR, eKL, eNI, eNR, eNL, eTI, eTR, eTL, eIR, eIL, eRI, eRL, eLI, eLR, rIw, rRw, rLw, decide_true, decide_false, ne_eq, not_false_eq_true, not_true_eq_false, true_and, and_true, and_false, false_and, and_self, if_true, if_false, reduceIte, Nat.reduceEqDiff, decide_not, Bool.not_true, Bool.not_false, zK_nw, rIn, rRn, w.1, dN, n0, hr]
    exact ⟨_, rfl, rfl⟩
  obtain ⟨h', e3, e4⟩ := ev
  have ch : Ch [(15, r)] h h' := by rw [e4]; exact (((Ch.rf.nw hw (by simp)).sR (by simp)).sI (by simp)).sI (by simp)
  refine ⟨h', zT h + 1, e3, w.keep ch (by simp) (by simp), ?_, ch⟩
  rw [e4]
  exact ⟨by simp [gd_true, ult, ubd, ukd, uwr, url, unz, uhI, uhR, uhL, upI, upR, upL, eKI, eKR, eKL, eNI, eNR, eNL, eTI, eTR, eTL, eIR, eIL, eRI, eRL, eLI, eLR, rIw, rRw, rLw, decide_true, decide_false, ne_eq, not_false_eq_true, not_true_eq_false, true_and, and_true, and_false, false_and, and_self, if_true, if_false, reduceIte, Nat.reduceEqDiff, decide_not, Bool.not_true, Bool.not_false, zK_nw], by simp [gd_true, ult, ubd, ukd, uwr, url, unz, uhI, uhR, uhL, upI, upR, upL, eKI, eKR, eKL, eNI, eNR, eNL, eTI, eTR, eTL, eIR, eIL, eRI, eRL, eLI, eLR, rIw, rRw, rLw, decide_true, decide_false, ne_eq, not_false_eq_true, not_true_eq_false, true_and, and_true, and_false, false_and, and_self, if_true, if_false, reduceIte, Nat.reduceEqDiff, decide_not, Bool.not_true, Bool.not_false, rIn, nI_0], by simp [gd_true, ult, ubd, ukd, uwr, url, unz, uhI, uhR, uhL, upI, upR, upL, eKI, eKR, eKL, eNI, eNR, eNL, eTI, eTR, eTL, eIR, eIL, eRI, eRL, eLI, eLR, rIw, rRw, rLw, decide_true, decide_false, ne_eq, not_false_eq_true, not_true_eq_false, true_and, and_true, and_false, false_and, and_self, if_true, if_false, reduceIte, Nat.reduceEqDiff, decide_not, Bool.not_true, Bool.not_false, rIn], by simp [gd_true, ult, ubd, ukd, uwr, url, unz, uhI, uhR, uhL, upI, upR, upL, eKI, eKR, eKL, eNI, eNR, eNL, eTI, eTR, eTL, eIR, eIL, eRI, eRL, eLI, eLR, rIw, rRw, rLw, decide_true, decide_false, ne_eq, not_false_eq_true, not_true_eq_false, true_and, and_true, and_false, false_and, and_self, if_true, if_false, reduceIte, Nat.reduceEqDiff, decide_not, Bool.not_true, Bool.not_false]⟩
/-! bit sets -/
def BS (h : zH) (r b : Nat) (f : Nat → Bool) : Prop := zK h b = (11, r) ∧ zK h (zR h 11 r 0 b) = (203, r) ∧ zN h (zR h 11 r 0 b) = 1 ∧ (zI h 11 r 1 b = 1 ∨ (zI h 11 r 1 b = 0 ∧ zL h 203 r 0 (zR h 11 r 0 b) = 0)) ∧ ∀ j, j < 24 → (zL h 203 r 0 (zR h 11 r 0 b)).toBitVec.getLsbD j = f j
theorem BS.keep {h h' : zH} {r b : Nat} {m : List (Nat × Nat)} {f : Nat → Bool} (w : BS h r b f) (c : Ch m h h') (e1 : (11, r) ∉ m) (e2 : (203, r) ∉ m) : BS h' r b f := by
  obtain ⟨w1, w2, w3, w4, w5⟩ := w
  unfold BS
  rw [c.r e1, c.i e1, c.g e2, c.n w2 (by decide)]
  exact ⟨c.k w1 (by decide), c.k w2 (by decide), w3, w4, w5⟩
theorem bit1 : ∀ j, j < 24 → ((1 : Int64) <<< ((nI j).toInt64 &&& 63)).toBitVec = BitVec.twoPow 64 j := by decide +kernel
theorem lg_cmp0 (x : Int64) : (lg_cmp x 0 = 0) = (x = 0) := by
  refine propext ⟨fun e => ?_, fun e => by subst e; decide⟩
  unfold lg_cmp at e
  by_cases c : x = 0
  · exact c
  · rw [if_neg c] at e
    split at e
    · exact absurd e (by decide)
    · exact absurd e (by decide)
theorem bit_and {x : Int64} {j : Nat} (hj : j < 24) : (lg_cmp (x &&& ((1 : Int64) <<< ((nI j).toInt64 &&& 63))) 0 = 0) = (x.toBitVec.getLsbD j = false) := by
  have e0 : (x &&& ((1 : Int64) <<< ((nI j).toInt64 &&& 63))).toBitVec = if x.toBitVec.getLsbD j then BitVec.twoPow 64 j else 0#64 := by
    rw [Int64.toBitVec_and, bit1 j hj, BitVec.and_twoPow]
  rw [lg_cmp0]
  refine propext ?_
  rw [← Int64.toBitVec_inj, e0]
  by_cases c : x.toBitVec.getLsbD j = true
  · rw [if_pos c, c]
    constructor
    · intro e
      have := congrArg (fun z => z.getLsbD j) e
      simp [BitVec.getLsbD_twoPow, show j < 64 by omega] at this
    · intro e; cases e
  · rw [if_neg c]
    simp at c
    simp [c]
theorem bit_or {x : Int64} {j k : Nat} (hj : j < 24) (hk : k < 24) : (x ||| ((1 : Int64) <<< ((nI j).toInt64 &&& 63))).toBitVec.getLsbD k = if k = j then true else x.toBitVec.getLsbD k := by
  rw [Int64.toBitVec_or, bit1 j hj, BitVec.getLsbD_or, BitVec.getLsbD_twoPow]
  by_cases c : k = j
  · simp [c, show j < 64 by omega]
  · rw [if_neg c]; simp [show ¬ j = k from fun e => c e.symm]
theorem bit_clr {x : Int64} {j k : Nat} (hj : j < 24) (hk : k < 24) : (x &&& (((1 : Int64) <<< ((nI j).toInt64 &&& 63)) ^^^ (-1))).toBitVec.getLsbD k = if k = j then false else x.toBitVec.getLsbD k := by
  rw [Int64.toBitVec_and, Int64.toBitVec_xor, bit1 j hj, BitVec.getLsbD_and, BitVec.getLsbD_xor, BitVec.getLsbD_twoPow]
  have e : (-1 : Int64).toBitVec.getLsbD k = true := by
    have : (-1 : Int64).toBitVec = BitVec.allOnes 64 := by decide
    rw [this, BitVec.getLsbD_allOnes]
    simp; omega
  rw [e]
  by_cases c : k = j
  · simp [c, show j < 64 by omega]
  · rw [if_neg c]; simp [show ¬ j = k from fun e => c e.symm]
theorem shr6 {j : Nat} (hj : j < 24) : nI j >>> ((6 : Int32) &&& 31) = 0 := by
  rw [pk_shrN (by omega) _ 6 (by decide), Nat.div_eq_of_lt (by omega)]
  rfl
theorem bs_inv {h : zH} {b : Nat} : j_J3_checkInvariants h b = some h := by
  unfold j_J3_checkInvariants j_J3_checkInvariants_j37 j_J3_checkInvariants_j70 j_J3_checkInvariants_j110
  rw [if_neg (by decide), if_neg (by decide), if_neg (by decide)]
theorem bs_get {h : zH} {r b j : Nat} {f : Nat → Bool} (w : BS h r b f) (hj : j < 24) : j_J3_get h b (nI j) = some (h, if f j = true then 1 else 0) := by
  obtain ⟨w1, w2, w3, w4, w5⟩ := w
  have e0 : (0 : Int32) ≤ nI j := by rw [← nI_0]; exact nI_le (by omega) (by omega)
  have i0 : inb 0 1 = true := by decide
  have x0 : ix 0 = 0 := rfl
  rcases w4 with w4 | ⟨w4, w6⟩
  · simp only [j_J3_get, j_J3_get_j68, j_J3_get_j67, j_J3_wordIndex, gd_true, ult, ubd, ukd, uwr, url, unz, uhI, uhR, uhL, upI, upR, upL, eKI, eKR, eKL, eNI, eNR, eNL, eTI, eTR, eTL, eIR, eIL, eRI, eRL, eLI, eLR, rIw, rRw, rLw, decide_true, decide_false, ne_eq, not_false_eq_true, not_true_eq_false, true_and, and_true, and_false, false_and, and_self, if_true, if_false, reduceIte, Nat.reduceEqDiff, decide_not, Bool.not_true, Bool.not_false, e0, bs_inv, shr6 hj, w1, w4, w2, w3, i0, x0, bit_and hj, w5 j hj, (by decide : ¬ (1 : Int32) ≤ 0)]
    by_cases c : f j = true <;> simp [c, b01, gd]
  · have : f j = false := by rw [← w5 j hj, w6]; simp
    simp only [j_J3_get, j_J3_get_j68, j_J3_get_j67, j_J3_wordIndex, gd_true, ult, ubd, ukd, uwr, url, unz, uhI, uhR, uhL, upI, upR, upL, eKI, eKR, eKL, eNI, eNR, eNL, eTI, eTR, eTL, eIR, eIL, eRI, eRL, eLI, eLR, rIw, rRw, rLw, decide_true, decide_false, ne_eq, not_false_eq_true, not_true_eq_false, true_and, and_true, and_false, false_and, and_self, if_true, if_false, reduceIte, Nat.reduceEqDiff, decide_not, Bool.not_true, Bool.not_false, e0, bs_inv, shr6 hj, w1, w4, this, (by decide : (0 : Int32) ≤ 0)]
    simp [b01, gd]
theorem bs_set {h : zH} {r b j : Nat} {f : Nat → Bool} (w : BS h r b f) (hr : r ≠ 0) (hj : j < 24) : ∃ h', j_J3_set h b (nI j) = some h' ∧ BS h' r b (fun k => if k = j then true else f k) ∧ Ch [(11, r), (203, r)] h h' := by
  obtain ⟨w1, w2, w3, w4, w5⟩ := w
  have e0 : (0 : Int32) ≤ nI j := by rw [← nI_0]; exact nI_le (by omega) (by omega)
  have i0 : inb 0 1 = true := by decide
  have x0 : ix 0 = 0 := rfl
  have i1 : isA h (zR h 11 r 0 b) = true := isA_of w2 (by decide) (by decide)
  have e1 : nI 1 = 1 := rfl
  have e2 : (0 : Int32) + 1 = 1 := by decide
  have ev : ∃ h', j_J3_set h b (nI j) = some h' ∧ ∃ S, (S = h ∨ S = sI h 11 r 1 b 1) ∧ zI S 11 r 1 b = 1 ∧ h' = sL S 203 r 0 (zR h 11 r 0 b) (zL h 203 r 0 (zR h 11 r 0 b) ||| ((1 : Int64) <<< ((nI j).toInt64 &&& 63))) := by
    rcases w4 with w4 | ⟨w4, w6⟩
    · simp only [j_J3_set, j_J3_wordIndex, j_J3_expandTo, j_J3_expandTo_j22, gd_true, ult, ubd, ukd, uwr, url, unz, uhI, uhR, uhL, upI, upR, upL, eKI, eKR, eKL, eNI, eNR, eNL, eTI, eTR, eTL, eIR, eIL, eRI, eRL, eLI, eLR, rIw, rRw, rLw, decide_true, decide_false, ne_eq, not_false_eq_true, not_true_eq_false, true_and, and_true, and_false, false_and, and_self, if_true, if_false, reduceIte, Nat.reduceEqDiff, decide_not, Bool.not_true, Bool.not_false, e0, bs_inv, shr6 hj, w1, w4, w2, w3, i0, x0, e2, hr, (by decide : (1 : Int32) ≤ 1)]
      exact ⟨_, rfl, h, Or.inl rfl, w4, rfl⟩
    · simp only [j_J3_set, j_J3_wordIndex, j_J3_expandTo, j_J3_expandTo_j22, j_J3_ensureCapacity, j_J3_ensureCapacity_j38, gd_true, ult, ubd, ukd, uwr, url, unz, uhI, uhR, uhL, upI, upR, upL, eKI, eKR, eKL, eNI, eNR, eNL, eTI, eTR, eTL, eIR, eIL, eRI, eRL, eLI, eLR, rIw, rRw, rLw, decide_true, decide_false, ne_eq, not_false_eq_true, not_true_eq_false, true_and, and_true, and_false, false_and, and_self, if_true, if_false, reduceIte, Nat.reduceEqDiff, decide_not, Bool.not_true, Bool.not_false, e0, bs_inv, shr6 hj, w1, w4, w2, w3, i0, i1, x0, e1, e2, hr, (by decide : (1 : Int32) ≤ 1), (by decide : ¬ (1 : Int32) ≤ 0)]
      exact ⟨_, rfl, _, Or.inr rfl, by simp [gd_true, ult, ubd, ukd, uwr, url, unz, uhI, uhR, uhL, upI, upR, upL, eKI, eKR, eKL, eNI, eNR, eNL, eTI, eTR, eTL, eIR, eIL, eRI, eRL, eLI, eLR, rIw, rRw, rLw, decide_true, decide_false, ne_eq, not_false_eq_true, not_true_eq_false, true_and, and_true, and_false, false_and, and_self, if_true, if_false, reduceIte, Nat.reduceEqDiff, decide_not, Bool.not_true, Bool.not_false], rfl⟩
  obtain ⟨h', f1, S, f2, f3, f4⟩ := ev
  have cS : Ch [(11, r), (203, r)] h S := by
    rcases f2 with e | e
    · rw [e]; exact Ch.rf
    · rw [e]; exact Ch.rf.sI (by simp)
  have rS : zR S = zR h := by
    rcases f2 with e | e
    · rw [e]
    · rw [e]; exact eRI
  refine ⟨h', f1, ?_, by rw [f4]; exact cS.sL (by simp)⟩
  have cc : Ch [(11, r), (203, r)] h h' := by rw [f4]; exact cS.sL (by simp)
  have r1 : zR h' = zR h := by rw [f4, eRL, rS]
  unfold BS
  rw [r1]
  refine ⟨cc.k w1 (by decide), cc.k w2 (by decide), by rw [cc.n w2 (by decide)]; exact w3, Or.inl (by rw [f4, eIL]; exact f3), fun k hk => ?_⟩
  rw [f4, rLw, if_pos ⟨rfl, rfl, rfl, rfl⟩, bit_or hj hk]
  by_cases c : k = j
  · simp [c]
  · simp only [if_neg c]; exact w5 k hk
theorem bs_clear {h : zH} {r b j : Nat} {f : Nat → Bool} (w : BS h r b f) (hr : r ≠ 0) (hj : j < 24) : ∃ h', j_J3_clear h b (nI j) = some h' ∧ BS h' r b (fun k => if k = j then false else f k) ∧ Ch [(11, r), (203, r)] h h' := by
  have w9 := w
  obtain ⟨w1, w2, w3, w4, w5⟩ := w
  have e0 : (0 : Int32) ≤ nI j := by rw [← nI_0]; exact nI_le (by omega) (by omega)
  have i0 : inb 0 1 = true := by decide
  have x0 : ix 0 = 0 := rfl
  rcases w4 with w4 | ⟨w4, w6⟩
  · have ev : ∃ h', j_J3_clear h b (nI j) = some h' ∧ ∃ v, (v = 1 ∨ (v = 0 ∧ zL h 203 r 0 (zR h 11 r 0 b) &&& (((1 : Int64) <<< ((nI j).toInt64 &&& 63)) ^^^ (-1)) = 0)) ∧ h' = sI (sL h 203 r 0 (zR h 11 r 0 b) (zL h 203 r 0 (zR h 11 r 0 b) &&& (((1 : Int64) <<< ((nI j).toInt64 &&& 63)) ^^^ (-1)))) 11 r 1 b v := by
      have e2 : (1 : Int32) - 1 = 0 := by decide
      have e3 : (0 : Int32) + -1 = -1 := by decide
      have e4 : (-1 : Int32) + 1 = 0 := by decide
      have e5 : (0 : Int32) + 1 = 1 := by decide
      have st : ∀ n S x, j_J3_recalculateWordsInUse_l7 (n + 1) S b x = j_J3_recalculateWordsInUse_b7 (j_J3_recalculateWordsInUse_l7 n) S b x := fun _ _ _ => rfl
      by_cases c : zL h 203 r 0 (zR h 11 r 0 b) &&& (((1 : Int64) <<< ((nI j).toInt64 &&& 63)) ^^^ (-1)) = 0
      · simp only [j_J3_clear, j_J3_wordIndex, j_J3_recalculateWordsInUse, st 99, st 98, j_J3_recalculateWordsInUse_b7, j_J3_recalculateWordsInUse_j31, gd_true, ult, ubd, ukd, uwr, url, unz, uhI, uhR, uhL, upI, upR, upL, eKI, eKR, eKL, eNI, eNR, eNL, eTI, eTR, eTL, eIR, eIL, eRI, eRL, eLI, eLR, rIw, rRw, rLw, decide_true, decide_false, ne_eq, not_false_eq_true, not_true_eq_false, true_and, and_true, and_false, false_and, and_self, if_true, if_false, reduceIte, Nat.reduceEqDiff, decide_not, Bool.not_true, Bool.not_false, e0, bs_inv, shr6 hj, w1, w4, w2, w3, i0, x0, e2, e3, e4, hr, (by decide : (0 : Int32) < 1), (by decide : ¬ (0 : Int32) < 0), (by decide : (-1 : Int32) < 0), lg_cmp0, c]
        exact ⟨_, rfl, _, Or.inr rfl, rfl⟩
      · simp only [j_J3_clear, j_J3_wordIndex, j_J3_recalculateWordsInUse, st 99, j_J3_recalculateWordsInUse_b7, j_J3_recalculateWordsInUse_j31, gd_true, ult, ubd, ukd, uwr, url, unz, uhI, uhR, uhL, upI, upR, upL, eKI, eKR, eKL, eNI, eNR, eNL, eTI, eTR, eTL, eIR, eIL, eRI, eRL, eLI, eLR, rIw, rRw, rLw, decide_true, decide_false, ne_eq, not_false_eq_true, not_true_eq_false, true_and, and_true, and_false, false_and, and_self, if_true, if_false, reduceIte, Nat.reduceEqDiff, decide_not, Bool.not_true, Bool.not_false, e0, bs_inv, shr6 hj, w1, w4, w2, w3, i0, x0, e2, e5, hr, (by decide : (0 : Int32) < 1), (by decide : ¬ (0 : Int32) < 0), lg_cmp0, c]
        exact ⟨_, rfl, _, Or.inl rfl, rfl⟩
    obtain ⟨h', f1, v, f2, f4⟩ := ev
    have cc : Ch [(11, r), (203, r)] h h' := by rw [f4]; exact (Ch.rf.sL (by simp)).sI (by simp)
    refine ⟨h', f1, ?_, cc⟩
    have r1 : zR h' = zR h := by rw [f4, eRI, eRL]
    have l1 : zL h' 203 r 0 (zR h 11 r 0 b) = zL h 203 r 0 (zR h 11 r 0 b) &&& (((1 : Int64) <<< ((nI j).toInt64 &&& 63)) ^^^ (-1)) := by rw [f4, eLI, rLw, if_pos ⟨rfl, rfl, rfl, rfl⟩]
    have v1 : zI h' 11 r 1 b = v := by rw [f4, rIw, if_pos ⟨rfl, rfl, rfl, rfl⟩]
    unfold BS
    rw [r1, v1, l1]
    refine ⟨cc.k w1 (by decide), cc.k w2 (by decide), by rw [cc.n w2 (by decide)]; exact w3, f2, fun k hk => ?_⟩
    rw [bit_clr hj hk]
    by_cases c : k = j
    · simp [c]
    · simp only [if_neg c]; exact w5 k hk
  · refine ⟨h, ?_, ⟨w1, w2, w3, Or.inr ⟨w4, w6⟩, fun k hk => ?_⟩, Ch.rf⟩
    · simp only [j_J3_clear, j_J3_wordIndex, gd_true, ult, ubd, ukd, uwr, url, unz, uhI, uhR, uhL, upI, upR, upL, eKI, eKR, eKL, eNI, eNR, eNL, eTI, eTR, eTL, eIR, eIL, eRI, eRL, eLI, eLR, rIw, rRw, rLw, decide_true, decide_false, ne_eq, not_false_eq_true, not_true_eq_false, true_and, and_true, and_false, false_and, and_self, if_true, if_false, reduceIte, Nat.reduceEqDiff, decide_not, Bool.not_true, Bool.not_false, e0, shr6 hj, w1, w4, (by decide : ¬ (0 : Int32) < 0)]
    · by_cases c : k = j
      · rw [w6]; simp [c]
      · simp only [if_neg c]; exact w5 k hk
/-! boxed ints -/
def IC (h : zH) (ic : Nat) : Prop := zK h ic = (208, 0) ∧ zN h ic = 256 ∧ ∀ k, k < 256 → zK h (zR h 208 0 k ic) = (19, 0) ∧ zI h 19 0 0 (zR h 208 0 k ic) = nI k - 128
theorem IC.keep {h h' : zH} {ic : Nat} {m : List (Nat × Nat)} (w : IC h ic) (c : Ch m h h') (e1 : (19, 0) ∉ m) (e2 : (208, 0) ∉ m) : IC h' ic := by
  obtain ⟨w1, w2, w3⟩ := w
  unfold IC
  rw [c.r e2, c.i e1, c.n w1 (by decide)]
  exact ⟨c.k w1 (by decide), w2, fun k hk => ⟨c.k (w3 k hk).1 (by decide), (w3 k hk).2⟩⟩
/-- the box of a small int -/
def bx (h : zH) (ic : Nat) (n : Nat) : Nat := zR h 208 0 (n + 128) ic
theorem box_ok {h : zH} {ic n : Nat} (w : IC h ic) (hn : n < 128) : j_J21_valueOf h (nI n) ic = some (h, bx h ic n) := by
  obtain ⟨w1, w2, w3⟩ := w
  have e1 : ¬ nI n < (-128 : Int32) := fun e => by
    have h1 : (-128 : Int32) < 0 := by decide
    exact nI_pos (by omega) (Int32.lt_trans e h1)
  have e2 : ¬ (127 : Int32) < nI n := fun e => by
    have e' : nI 127 < nI n := e
    have := (nI_ltI (by omega) (by omega)).mp e'
    omega
  have e3 : nI n + 128 = nI (n + 128) := nI_add n 128
  simp only [j_J21_valueOf, gd_true, ult, ubd, ukd, uwr, url, unz, uhI, uhR, uhL, upI, upR, upL, eKI, eKR, eKL, eNI, eNR, eNL, eTI, eTR, eTL, eIR, eIL, eRI, eRL, eLI, eLR, rIw, rRw, rLw, decide_true, decide_false, ne_eq, not_false_eq_true, not_true_eq_false, true_and, and_true, and_false, false_and, and_self, if_true, if_false, reduceIte, Nat.reduceEqDiff, decide_not, Bool.not_true, Bool.not_false, e1, e2, e3, w1, w2, inb_nI (show n + 128 < 256 by omega) (by decide), ix_nI (show n + 128 < 2 ^ 31 by omega)]
  rfl
theorem unbox_ok {h : zH} {ic n : Nat} (w : IC h ic) (hn : n < 128) : zK h (bx h ic n) = (19, 0) ∧ zI h 19 0 0 (bx h ic n) = nI n ∧ j_J21_intValue h (bx h ic n) = some (h, nI n) := by
  obtain ⟨w1, w2, w3⟩ := w
  obtain ⟨a1, a2⟩ := w3 (n + 128) (by omega)
  have e : nI (n + 128) - 128 = nI n := by rw [← nI_add, show nI 128 = 128 from rfl, Int32.add_sub_cancel]
  rw [e] at a2
  refine ⟨a1, a2, ?_⟩
  have a1 : zK h (bx h ic n) = (19, 0) := a1
  have a2 : zI h 19 0 0 (bx h ic n) = nI n := a2
  simp only [j_J21_intValue, gd_true, ult, ubd, ukd, uwr, url, unz, uhI, uhR, uhL, upI, upR, upL, eKI, eKR, eKL, eNI, eNR, eNL, eTI, eTR, eTL, eIR, eIL, eRI, eRL, eLI, eLR, rIw, rRw, rLw, decide_true, decide_false, ne_eq, not_false_eq_true, not_true_eq_false, true_and, and_true, and_false, false_and, and_self, if_true, if_false, reduceIte, Nat.reduceEqDiff, decide_not, Bool.not_true, Bool.not_false, a1, a2]
