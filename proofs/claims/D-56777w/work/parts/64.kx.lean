/-! SMALL METHODS OF THE COMPONENT -/
set_option maxRecDepth 100000
theorem b01_if {P : Prop} {_d : Decidable P} : b01 (if P then 1 else 0) = true := by unfold b01; split <;> decide
theorem if01 {P : Prop} {_d : Decidable P} : ((if P then (1 : Int32) else 0) = 0) = ¬ P := by by_cases c : P <;> simp [c]
theorem k_btw {h : zH} {v l u : Int32} : j_X1_isBetween h v l u = some (h, if l ≤ v ∧ v ≤ u then 1 else 0) := by
  unfold j_X1_isBetween j_X1_isBetween_j14 j_X1_isBetween_j15
  by_cases c1 : v < l
  · rw [if_pos c1, if_neg (fun z => Int32.not_lt.mpr z.1 c1)]
    simp [b01, gd]
  · by_cases c2 : u < v
    · rw [if_neg c1, if_pos c2, if_neg (fun z => Int32.not_lt.mpr z.2 c2)]
      simp [b01, gd]
    · rw [if_neg c1, if_neg c2, if_pos ⟨Int32.not_lt.mp c1, Int32.not_lt.mp c2⟩]
      simp [b01, gd]
theorem k_addr {h : zH} {v : Int32} : j_X1_isAddress h v = some (h, if isAd v then 1 else 0) := by
  simp only [j_X1_isAddress, k_btw, ubd]
  rw [gd_t b01_if]
theorem k_place {h : zH} {v : Int32} : j_X1_isPlace h v = some (h, if isAd v then 1 else 0) := by
  simp only [j_X1_isPlace, k_btw, ubd]
  rw [gd_t b01_if]
theorem k_reg {h : zH} {v : Int32} : j_X1_isRegister h v = some (h, if inR v 0 7 then 1 else 0) := by
  simp only [j_X1_isRegister, k_btw, ubd]
  rw [gd_t b01_if]
section X4
variable {h : zH} {q : Nat} {c : Int32}
theorem x4_sto (k : zK h q = (4, 1)) (e : zI h 4 1 0 q = c) : j_X4_isStore h q = some (h, if cSto c then 1 else 0) := by
  simp only [j_X4_isStore, j_X4_isStore_j18, j_X4_isStore_j23, gd_true, ult, ubd, ukd, uwr, url, unz, uhI, uhR, uhL, upI, upR, upL, eKI, eKR, eKL, eNI, eNR, eNL, eTI, eTR, eTL, eIR, eIL, eRI, eRL, eLI, eLR, rIw, rRw, rLw, decide_true, decide_false, ne_eq, not_false_eq_true, not_true_eq_false, true_and, and_true, and_false, false_and, and_self, if_true, if_false, reduceIte, Nat.reduceEqDiff, decide_not, Bool.not_true, Bool.not_false, k, e]
  by_cases c1 : c = 10
  · subst c1; simp [b01, gd]
  · by_cases c2 : c = 11
    · subst c2; simp [b01, gd]
    · simp [c1, c2, b01, gd]
theorem x4_mem (k : zK h q = (4, 1)) (e : zI h 4 1 0 q = c) : j_X4_isForMemory h q = some (h, if cMem c then 1 else 0) := by
  simp only [j_X4_isForMemory, j_X4_isForMemory_j16, j_X4_isForMemory_j21, gd_true, ult, ubd, ukd, uwr, url, unz, uhI, uhR, uhL, upI, upR, upL, eKI, eKR, eKL, eNI, eNR, eNL, eTI, eTR, eTL, eIR, eIL, eRI, eRL, eLI, eLR, rIw, rRw, rLw, decide_true, decide_false, ne_eq, not_false_eq_true, not_true_eq_false, true_and, and_true, and_false, false_and, and_self, if_true, if_false, reduceIte, Nat.reduceEqDiff, decide_not, Bool.not_true, Bool.not_false, k, e, x4_sto k e, if01]
  by_cases c1 : c = 9
  · subst c1; simp [b01, gd]
  · by_cases c2 : cSto c
    · simp [c1, c2, b01, gd]
    · simp [c1, c2, b01, gd]
theorem x4_ind (k : zK h q = (4, 1)) (e : zI h 4 1 0 q = c) : j_X4_isIndirect h q = some (h, if cInd c then 1 else 0) := by
  simp only [j_X4_isIndirect, j_X4_isIndirect_j18, j_X4_isIndirect_j23, gd_true, ult, ubd, ukd, uwr, url, unz, uhI, uhR, uhL, upI, upR, upL, eKI, eKR, eKL, eNI, eNR, eNL, eTI, eTR, eTL, eIR, eIL, eRI, eRL, eLI, eLR, rIw, rRw, rLw, decide_true, decide_false, ne_eq, not_false_eq_true, not_true_eq_false, true_and, and_true, and_false, false_and, and_self, if_true, if_false, reduceIte, Nat.reduceEqDiff, decide_not, Bool.not_true, Bool.not_false, k, e]
  by_cases c1 : c = 16
  · subst c1; simp [b01, gd]
  · by_cases c2 : c = 17
    · subst c2; simp [b01, gd]
    · simp [c1, c2, b01, gd]
theorem x4_cnd (k : zK h q = (4, 1)) (e : zI h 4 1 0 q = c) : j_X4_isCondition h q = some (h, if cCnd c then 1 else 0) := by
  simp only [j_X4_isCondition, j_X4_isCondition_j18, j_X4_isCondition_j23, gd_true, ult, ubd, ukd, uwr, url, unz, uhI, uhR, uhL, upI, upR, upL, eKI, eKR, eKL, eNI, eNR, eNL, eTI, eTR, eTL, eIR, eIL, eRI, eRL, eLI, eLR, rIw, rRw, rLw, decide_true, decide_false, ne_eq, not_false_eq_true, not_true_eq_false, true_and, and_true, and_false, false_and, and_self, if_true, if_false, reduceIte, Nat.reduceEqDiff, decide_not, Bool.not_true, Bool.not_false, k, e]
  by_cases c1 : c = 12
  · subst c1; simp [b01, gd]
  · by_cases c2 : c = 13
    · subst c2; simp [b01, gd]
    · simp [c1, c2, b01, gd]
theorem x4_alo (k : zK h q = (4, 1)) (e : zI h 4 1 0 q = c) : j_X4_standsAlone h q = some (h, if cAlo c then 1 else 0) := by
  simp only [j_X4_standsAlone, j_X4_standsAlone_j18, j_X4_standsAlone_j23, gd_true, ult, ubd, ukd, uwr, url, unz, uhI, uhR, uhL, upI, upR, upL, eKI, eKR, eKL, eNI, eNR, eNL, eTI, eTR, eTL, eIR, eIL, eRI, eRL, eLI, eLR, rIw, rRw, rLw, decide_true, decide_false, ne_eq, not_false_eq_true, not_true_eq_false, true_and, and_true, and_false, false_and, and_self, if_true, if_false, reduceIte, Nat.reduceEqDiff, decide_not, Bool.not_true, Bool.not_false, k, e]
  by_cases c1 : c = 19
  · subst c1; simp [b01, gd]
  · by_cases c2 : c = 21
    · subst c2; simp [b01, gd]
    · simp [c1, c2, b01, gd]
theorem x4_res (k : zK h q = (4, 1)) (e : zI h 4 1 0 q = c) : j_X4_hasResult h q = some (h, if cRes c then 1 else 0) := by
  simp only [j_X4_hasResult, j_X4_hasResult_j22, j_X4_hasResult_j27, gd_true, ult, ubd, ukd, uwr, url, unz, uhI, uhR, uhL, upI, upR, upL, eKI, eKR, eKL, eNI, eNR, eNL, eTI, eTR, eTL, eIR, eIL, eRI, eRL, eLI, eLR, rIw, rRw, rLw, decide_true, decide_false, ne_eq, not_false_eq_true, not_true_eq_false, true_and, and_true, and_false, false_and, and_self, if_true, if_false, reduceIte, Nat.reduceEqDiff, decide_not, Bool.not_true, Bool.not_false, k, e, k_btw, if01]
  by_cases c1 : 1 ≤ c ∧ c ≤ 9
  · simp [c1, b01, gd]
  · by_cases c2 : c = 15
    · subst c2; simp [b01, gd]
    · rw [if_pos c1, if_neg c2, if_neg (by rintro (z | z); exact c1 z; exact c2 z)]
      simp [b01, gd]
theorem x4_que (k : zK h q = (4, 1)) (e : zI h 4 1 0 q = c) : j_X4_isForQueue h q = some (h, if cQue c then 1 else 0) := by
  simp only [j_X4_isForQueue, j_X4_isForQueue_j20, j_X4_isForQueue_j25, gd_true, ult, ubd, ukd, uwr, url, unz, uhI, uhR, uhL, upI, upR, upL, eKI, eKR, eKL, eNI, eNR, eNL, eTI, eTR, eTL, eIR, eIL, eRI, eRL, eLI, eLR, rIw, rRw, rLw, decide_true, decide_false, ne_eq, not_false_eq_true, not_true_eq_false, true_and, and_true, and_false, false_and, and_self, if_true, if_false, reduceIte, Nat.reduceEqDiff, decide_not, Bool.not_true, Bool.not_false, k, e, k_btw, x4_ind k e, if01]
  by_cases c1 : 1 ≤ c ∧ c ≤ 13
  · rw [if_neg (fun z => z c1), if_pos (Or.inl c1)]; simp [b01, gd]
  · rw [if_pos c1]
    by_cases c2 : cInd c
    · rw [if_neg (fun z => z c2), if_pos (Or.inr c2)]; simp [b01, gd]
    · rw [if_pos c2, if_neg (by rintro (z | z); exact c1 z; exact c2 z)]; simp [b01, gd]
theorem x4_ndA (k : zK h q = (4, 1)) (e : zI h 4 1 0 q = c) : j_X4_needsA h q = some (h, if cNdA c then 1 else 0) := by
  simp only [j_X4_needsA, j_X4_needsA_j19, j_X4_needsA_j20, gd_true, ult, ubd, ukd, uwr, url, unz, uhI, uhR, uhL, upI, upR, upL, eKI, eKR, eKL, eNI, eNR, eNL, eTI, eTR, eTL, eIR, eIL, eRI, eRL, eLI, eLR, rIw, rRw, rLw, decide_true, decide_false, ne_eq, not_false_eq_true, not_true_eq_false, true_and, and_true, and_false, false_and, and_self, if_true, if_false, reduceIte, Nat.reduceEqDiff, decide_not, Bool.not_true, Bool.not_false, k, e, x4_que k e, if01]
  by_cases c1 : cQue c
  · by_cases c2 : c = 1
    · rw [if_neg (fun z => z c1), if_pos c2, if_neg (fun z => z.2 c2)]; simp [b01, gd]
    · rw [if_neg (fun z => z c1), if_neg c2, if_pos ⟨c1, c2⟩]; simp [b01, gd]
  · rw [if_pos c1, if_neg (fun z => c1 z.1)]; simp [b01, gd]
theorem x4_ndB (k : zK h q = (4, 1)) (e : zI h 4 1 0 q = c) : j_X4_needsBToBegin h q = some (h, if cNdB c then 1 else 0) := by
  simp only [j_X4_needsBToBegin, j_X4_needsBToBegin_j25, j_X4_needsBToBegin_j26, gd_true, ult, ubd, ukd, uwr, url, unz, uhI, uhR, uhL, upI, upR, upL, eKI, eKR, eKL, eNI, eNR, eNL, eTI, eTR, eTL, eIR, eIL, eRI, eRL, eLI, eLR, rIw, rRw, rLw, decide_true, decide_false, ne_eq, not_false_eq_true, not_true_eq_false, true_and, and_true, and_false, false_and, and_self, if_true, if_false, reduceIte, Nat.reduceEqDiff, decide_not, Bool.not_true, Bool.not_false, k, x4_ndA k e, x4_mem k e, x4_ind k e, if01]
  by_cases c1 : cNdA c
  · rw [if_neg (fun z => z c1)]
    by_cases c2 : cMem c
    · rw [if_neg (fun z => z c2), if_neg (fun z => z.2.1 c2)]; simp [b01, gd]
    · rw [if_pos c2]
      by_cases c3 : cInd c
      · rw [if_neg (fun z => z c3), if_neg (fun z => z.2.2 c3)]; simp [b01, gd]
      · rw [if_pos c3, if_pos ⟨c1, c2, c3⟩]; simp [b01, gd]
  · rw [if_pos c1, if_neg (fun z => c1 z.1)]; simp [b01, gd]
theorem x4_trp {y : Int32} (k : zK h q = (4, 1)) (e : zI h 4 1 0 q = c) : j_X4_traps h q y = some (h, if c = 5 ∧ y = 0 then 1 else 0) := by
  simp only [j_X4_traps, j_X4_traps_j16, j_X4_traps_j17, gd_true, ult, ubd, ukd, uwr, url, unz, uhI, uhR, uhL, upI, upR, upL, eKI, eKR, eKL, eNI, eNR, eNL, eTI, eTR, eTL, eIR, eIL, eRI, eRL, eLI, eLR, rIw, rRw, rLw, decide_true, decide_false, ne_eq, not_false_eq_true, not_true_eq_false, true_and, and_true, and_false, false_and, and_self, if_true, if_false, reduceIte, Nat.reduceEqDiff, decide_not, Bool.not_true, Bool.not_false, k, e]
  by_cases c1 : c = 5
  · by_cases c2 : y = 0
    · simp [c1, c2, b01, gd]
    · simp [c1, c2, b01, gd]
  · simp [c1, b01, gd]
theorem x4_std {x y : Int32} (k : zK h q = (4, 1)) (e : zI h 4 1 0 q = c) : j_X4_stored h q x y = some (h, stod c x y) := by
  simp only [j_X4_stored, j_X4_stored_j22, gd_true, ult, ubd, ukd, uwr, url, unz, uhI, uhR, uhL, upI, upR, upL, eKI, eKR, eKL, eNI, eNR, eNL, eTI, eTR, eTL, eIR, eIL, eRI, eRL, eLI, eLR, rIw, rRw, rLw, decide_true, decide_false, ne_eq, not_false_eq_true, not_true_eq_false, true_and, and_true, and_false, false_and, and_self, if_true, if_false, reduceIte, Nat.reduceEqDiff, decide_not, Bool.not_true, Bool.not_false, k, e, stod]
  by_cases c1 : c = 10
  · rw [if_pos c1, if_pos c1]
  · rw [if_neg c1, if_neg c1]
theorem x4_ful {x y : Int32} (k : zK h q = (4, 1)) (e : zI h 4 1 0 q = c) : j_X4_isFulfilled h q x y = some (h, if fulf c x y then 1 else 0) := by
  simp only [j_X4_isFulfilled, j_X4_isFulfilled_j32, gd_true, ult, ubd, ukd, uwr, url, unz, uhI, uhR, uhL, upI, upR, upL, eKI, eKR, eKL, eNI, eNR, eNL, eTI, eTR, eTL, eIR, eIL, eRI, eRL, eLI, eLR, rIw, rRw, rLw, decide_true, decide_false, ne_eq, not_false_eq_true, not_true_eq_false, true_and, and_true, and_false, false_and, and_self, if_true, if_false, reduceIte, Nat.reduceEqDiff, decide_not, Bool.not_true, Bool.not_false, k, e]
  by_cases c1 : c = 12
  · rw [if_pos c1]
    by_cases c2 : x = y
    · rw [if_pos c2, if_pos (Or.inl ⟨c1, c2⟩)]; simp [b01, gd]
    · rw [if_neg c2, if_neg (by rintro (z | z); exact c2 z.2; exact z.1 c1)]; simp [b01, gd]
  · rw [if_neg c1]
    by_cases c2 : y ≤ x
    · rw [if_pos c2, if_neg (by rintro (z | z); exact c1 z.1; exact Int32.not_lt.mpr c2 z.2)]; simp [b01, gd]
    · rw [if_neg c2, if_pos (Or.inr ⟨c1, Int32.not_le.mp c2⟩)]; simp [b01, gd]
theorem x4_rek {n x y : Int32} (k : zK h q = (4, 1)) (e : zI h 4 1 0 q = c) (en : zI h 4 1 4 q = n) (hy : c = 5 → y ≠ 0) : j_X4_reckon h q x y = some (h, reck c n x y) := by
  have e9 : c = 5 → nz y = true := fun z => by unfold nz; exact decide_eq_true (hy z)
  simp only [j_X4_reckon, j_X4_reckon_j87, gd_true, ult, ubd, ukd, uwr, url, unz, uhI, uhR, uhL, upI, upR, upL, eKI, eKR, eKL, eNI, eNR, eNL, eTI, eTR, eTL, eIR, eIL, eRI, eRL, eLI, eLR, rIw, rRw, rLw, decide_true, decide_false, ne_eq, not_false_eq_true, not_true_eq_false, true_and, and_true, and_false, false_and, and_self, if_true, if_false, reduceIte, Nat.reduceEqDiff, decide_not, Bool.not_true, Bool.not_false, k, e, en, reck]
  by_cases c1 : c = 1
  · rw [if_pos c1, if_pos c1]
  rw [if_neg c1, if_neg c1]
  by_cases c2 : c = 2
  · rw [if_pos c2, if_pos c2]
  rw [if_neg c2, if_neg c2]
  by_cases c3 : c = 3
  · rw [if_pos c3, if_pos c3]
  rw [if_neg c3, if_neg c3]
  by_cases c4 : c = 4
  · rw [if_pos c4, if_pos c4]
  rw [if_neg c4, if_neg c4]
  by_cases c5 : c = 5
  · rw [if_pos c5, if_pos c5, gd_t (e9 c5)]
  rw [if_neg c5, if_neg c5]
  by_cases c6 : c = 6
  · rw [if_pos c6, if_pos c6]
  rw [if_neg c6, if_neg c6]
  by_cases c7 : c = 7
  · rw [if_pos c7, if_pos c7]
  rw [if_neg c7, if_neg c7]
  by_cases c8 : y ≤ x
  · rw [if_pos c8, if_neg (Int32.not_lt.mpr c8)]
  · rw [if_neg c8, if_pos (Int32.not_le.mp c8)]
end X4
/-! flights -/
section X8
variable {h : zH} {pl : List Nat} {q : Nat} {f : FL}
theorem fr_i (w : FR h pl q f) {k : Nat} (hk : k ∈ fkl) : zI h 8 1 k q = f.1 k := w.2.2.1 k hk
/-- its instruction -/
theorem fr_ins {p e0 : Nat} {s : Nat → Int32} {a : Nat → Nat → Int32} (w : FR h pl q f) (g : G10 h p e0 pl s a) : zK h (zR h 8 1 0 q) = (4, 1) ∧ (∀ j, j < 5 → zI h 4 1 j (zR h 8 1 0 q) = a (50 + j) (ix (f.1 1))) ∧ ix (f.1 1) < pl.length ∧ f.1 1 = nI (ix (f.1 1)) := by
  obtain ⟨w1, ⟨i, i1, i2, i3⟩, -⟩ := w
  have hl := g.2.1
  have e : ix (f.1 1) = i := by rw [i2]; exact ix_nI (by omega)
  rw [i3, e]
  exact ⟨(g.2.2.2 i i1).1, (g.2.2.2 i i1).2, i1, i2⟩
theorem x8_over (w : FR h pl q f) : j_X8_isOver h q = some (h, if f.1 14 = 101 then 1 else 0) := by
  simp only [j_X8_isOver, j_X8_isOver_j14, gd_true, ult, ubd, ukd, uwr, url, unz, uhI, uhR, uhL, upI, upR, upL, eKI, eKR, eKL, eNI, eNR, eNL, eTI, eTR, eTL, eIR, eIL, eRI, eRL, eLI, eLR, rIw, rRw, rLw, decide_true, decide_false, ne_eq, not_false_eq_true, not_true_eq_false, true_and, and_true, and_false, false_and, and_self, if_true, if_false, reduceIte, Nat.reduceEqDiff, decide_not, Bool.not_true, Bool.not_false, w.1, fr_i w (k := 14) (by decide)]
  by_cases c1 : f.1 14 = 101
  · simp [c1, b01, gd]
  · simp [c1, b01, gd]
theorem age_lt {a b : Int32} (h1 : 0 ≤ a) (h2 : 0 ≤ b) : (0 ≤ lg_cmp (a.toInt64 + 1) (b.toInt64 + 1)) = ¬ a < b := by
  have ta := Int32.le_iff_toInt_le.mp h1
  have tb := Int32.le_iff_toInt_le.mp h2
  have z0 : (0 : Int32).toInt = 0 := rfl
  have ua := Int32.toInt_lt a
  have ub := Int32.toInt_lt b
  have e1 : ∀ x : Int32, 0 ≤ x.toInt → (x.toInt64 + 1).toInt = x.toInt + 1 := fun x hx => by
    have ux := Int32.toInt_lt x
    rw [Int64.toInt_add, Int32.toInt_toInt64]
    show Int.bmod (x.toInt + 1) (2 ^ 64) = _
    rw [Int.bmod_eq_of_le (by omega) (by omega)]
  refine propext ?_
  rw [Int32.lt_iff_toInt_lt]
  unfold lg_cmp
  have e2 := e1 a (by omega)
  have e3 := e1 b (by omega)
  by_cases c : b.toInt < a.toInt
  · have c' : b.toInt64 + 1 < a.toInt64 + 1 := by rw [Int64.lt_iff_toInt_lt, e2, e3]; omega
    rw [if_pos c']
    exact ⟨fun _ => by omega, fun _ => by decide⟩
  · have c' : ¬ b.toInt64 + 1 < a.toInt64 + 1 := by rw [Int64.lt_iff_toInt_lt, e2, e3]; omega
    rw [if_neg c']
    by_cases d : a.toInt64 + 1 = b.toInt64 + 1
    · rw [if_pos d]
      have := congrArg Int64.toInt d
      rw [e2, e3] at this
      exact ⟨fun _ => by omega, fun _ => by decide⟩
    · rw [if_neg d]
      have : a.toInt ≠ b.toInt := fun e => d (Int64.toInt_inj.mp (by rw [e2, e3, e]))
      exact ⟨fun z => absurd z (by decide), fun z => by omega⟩
theorem x10_older {q' : Nat} {a b : Int32} (k1 : zK h q = (8, 1)) (k2 : zK h q' = (8, 1)) (e1 : zL h 8 1 3 q = a.toInt64 + 1) (e2 : zL h 8 1 3 q' = b.toInt64 + 1) (h1 : 0 ≤ a) (h2 : 0 ≤ b) : j_X10_isOlderThan h q q' = some (h, if a < b then 1 else 0) := by
  simp only [j_X10_isOlderThan, j_X10_isOlderThan_j21, j_X8_age, gd_true, ult, ubd, ukd, uwr, url, unz, uhI, uhR, uhL, upI, upR, upL, eKI, eKR, eKL, eNI, eNR, eNL, eTI, eTR, eTL, eIR, eIL, eRI, eRL, eLI, eLR, rIw, rRw, rLw, decide_true, decide_false, ne_eq, not_false_eq_true, not_true_eq_false, true_and, and_true, and_false, false_and, and_self, if_true, if_false, reduceIte, Nat.reduceEqDiff, decide_not, Bool.not_true, Bool.not_false, k1, k2, e1, e2, age_lt h1 h2]
  by_cases c : a < b
  · rw [if_neg (fun z => z c), if_pos c]; simp [b01, gd]
  · rw [if_pos c, if_neg c]; simp [b01, gd]
end X8
