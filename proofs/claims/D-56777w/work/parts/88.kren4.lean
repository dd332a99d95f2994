/-! RENAMING: the loop -/
set_option maxRecDepth 100000
section KREN4
variable {ic e0 sp p N : Nat}
theorem rn_l {pl el : List Nat} : ∀ (n m : Nat) (h : zH) (A : AS) (bq lq : List Nat), n < m → n ≤ 4 → RQ h p ic e0 sp A bq lq pl el → KI N A → ∃ h' bq' lq', j_X1_renameAll_l5 m h p (nI n) = some h' ∧ RQ h' p ic e0 sp (aRenLoop n A) bq' lq' pl el ∧ KI N (aRenLoop n A)
  | n, 0, h, A, bq, lq, hm, hn, w, k => absurd hm (by omega)
  | 0, m + 1, h, A, bq, lq, hm, hn, w, k => by
    refine ⟨h, bq, lq, ?_, w, k⟩
    show j_X1_renameAll_b5 (j_X1_renameAll_l5 m) h p (nI 0) = some h
    have : nI 0 ≤ 0 := by decide
    simp only [j_X1_renameAll_b5, j_X1_renameAll_j56, if_pos this]
  | n + 1, m + 1, h, A, bq, lq, hm, hn, w, k => by
    show ∃ h' bq' lq', j_X1_renameAll_b5 (j_X1_renameAll_l5 m) h p (nI (n + 1)) = some h' ∧ _
    have le : ¬ nI (n + 1) ≤ 0 := fun z => by rw [← nI_0] at z; have := (nI_leI (by omega) (by omega)).mp z; omega
    obtain ⟨a, ad⟩ := rk_g6 w.1
    have ie := ad_isEmpty ad
    have fl := rk_fl w.1
    have ue : aRenLoop (n + 1) A = match aLine A with | [] => A | f :: t => if aCanRen A f then aRenLoop n (aRename f (wLine A t)) else A := rfl
    rw [ue]
    by_cases c : lq = []
    · have ca : aLine A = [] := List.length_eq_zero_iff.mp (by rw [← fl.1, c]; rfl)
      rw [ca]
      refine ⟨h, bq, lq, ?_, w, k⟩
      simp only [j_X1_renameAll_b5, j_X1_renameAll_j56, gd_true, ult, ubd, ukd, uwr, url, unz, uhI, uhR, uhL, upI, upR, upL, eKI, eKR, eKL, eNI, eNR, eNL, eTI, eTR, eTL, eIR, eIL, eRI, eRL, eLI, eLR, rIw, rRw, rLw, decide_true, decide_false, ne_eq, not_false_eq_true, not_true_eq_false, true_and, and_true, and_false, false_and, and_self, if_true, if_false, reduceIte, Nat.reduceEqDiff, decide_not, Bool.not_true, Bool.not_false, if_neg le, rq_k w, ad.1, ie, if_pos c, if_neg (by decide : ¬ (1 : Int32) = 0)]
    · have h0 : 0 < lq.length := List.length_pos_iff.mpr c
      obtain ⟨f, t, ef⟩ : ∃ f t, aLine A = f :: t := by
        cases hA : aLine A with
        | nil => rw [hA] at fl; have := fl.1; simp at this; exact absurd this c
        | cons f t => exact ⟨f, t, rfl⟩
      rw [ef]
      have fr := fl.2 0 h0
      rw [ef] at fr
      have fr : FR h pl (lq.getD 0 0) f := fr
      have cr := k_canRen w k fr
      have gf := ad_getFirst ad h0
      by_cases d : aCanRen A f
      · rw [if_pos d] at cr
        show ∃ h' bq' lq', _ ∧ RQ h' p ic e0 sp (if aCanRen A f then aRenLoop n (aRename f (wLine A t)) else A) bq' lq' pl el ∧ KI N (if aCanRen A f then aRenLoop n (aRename f (wLine A t)) else A)
        rw [if_pos d]
        obtain ⟨h1, e1, ad1, c1⟩ := ad_removeFirst ad (by decide) h0
        have hq0 : lq.getD 0 0 ∈ lq := getD_mem h0
        have hq1 : lq.getD 0 0 ∉ lq.tail := by
          have := nd_r w.1
          cases lq with
          | nil => exact absurd h0 (by decide)
          | cons a t => exact (List.nodup_cons.mp this).1
        have nd := rk_nd w.1
        have hq2 : lq.getD 0 0 ∉ bq := fun z => (List.nodup_append.mp nd).2.2 _ z _ hq0 rfl
        have hE := ends_neL w.1 hq0
        have tl : FQ h pl lq.tail t := by
          have := fq_tl fl
          rw [ef] at this
          exact this
        have w1 : RQ h1 p ic e0 sp (wLine A t) bq lq.tail pl el := rq_set6 w c1 ⟨_, by rw [c1.r (by decide)]; exact ad1⟩ tl (by
          rw [List.nodup_append] at nd ⊢
          exact ⟨nd.1, (List.tail_sublist _).nodup nd.2.1, fun a ha b hb => nd.2.2 a ha b (List.mem_of_mem_tail hb)⟩) (by have := rk_ll w.1; rw [List.length_tail]; omega) ((rk_gd w.1).imp id fun g x hx => ⟨(g x hx).1, fun z => (g x hx).2 (List.mem_of_mem_tail z)⟩)
        have l1 : Lo h1 p ic e0 sp (wLine A t) bq lq.tail pl el (lq.getD 0 0) f := ⟨w1, fr.keep c1.cg (by decide), hq2, hq1, by rw [c1.r (by decide)]; exact hE⟩
        have lo := k.l f (by rw [ef]; exact List.mem_cons_self)
        have k1 : KI N (wLine A t) := k.li (fun g hg => k.l g (by rw [ef]; exact List.mem_cons_of_mem _ hg))
        obtain ⟨-, -, pl1, pl2⟩ := fr_ins fr (rk_g10 w.1)
        have pr : f.1 1 = nI (ix (f.1 1)) ∧ ix (f.1 1) < ix (aS A 0) := ⟨pl2, by rw [(rk_g10 w.1).2.2.1, ix_nI (by have := (rk_g10 w.1).2.1; omega)]; exact pl1⟩
        have hb : bq.length < 16 := by
          obtain ⟨n6, -, y2, y3, y4⟩ := k.z
          have := d.1
          rw [y3, ix_nI (by omega)] at this
          rw [rq_len w]; omega
        have hD : cRes (cd A f) → aFree A ≠ [] := fun z y => d.2.1 ⟨z, y⟩
        have hR : cRes (cd A f) → rg ((aFree A).headD 0) := fun z => by
          obtain ⟨-, g2, -⟩ := rk_g5 w.1
          cases hA : aFree A with
          | nil => exact absurd hA (hD z)
          | cons D t =>
            have := g2 D (by rw [hA]; exact List.mem_cons_self)
            exact ⟨ix D, this.1, this.2⟩
        obtain ⟨h2, e2, w2⟩ := k_rename l1 k1 lo hb hD
        have k2 : KI N (aRename f (wLine A t)) := ki_rename k1 lo pr d hR
        obtain ⟨h', bq', lq', f1, f2, f3⟩ := rn_l n m h2 _ _ _ (by omega) (by omega) w2 k2
        refine ⟨h', bq', lq', ?_, f2, f3⟩
        have em : nI (n + 1) + (-1) = nI n := by rw [nI_succ, Int32.add_assoc]; show nI n + 0 = _; rw [Int32.add_zero]
        simp only [j_X1_renameAll_b5, gd_true, ult, ubd, ukd, uwr, url, unz, uhI, uhR, uhL, upI, upR, upL, eKI, eKR, eKL, eNI, eNR, eNL, eTI, eTR, eTL, eIR, eIL, eRI, eRL, eLI, eLR, rIw, rRw, rLw, decide_true, decide_false, ne_eq, not_false_eq_true, not_true_eq_false, true_and, and_true, and_false, false_and, and_self, if_true, if_false, reduceIte, Nat.reduceEqDiff, decide_not, Bool.not_true, Bool.not_false, if_neg le, rq_k w, ad.1, ie, if_neg c, gf, fr.1, cr, if_neg (by decide : ¬ (1 : Int32) = 0), e1, l1.2.1.1, rq_k w1, e2, em]
        exact f1
      · rw [if_neg d] at cr
        show ∃ h' bq' lq', _ ∧ RQ h' p ic e0 sp (if aCanRen A f then aRenLoop n (aRename f (wLine A t)) else A) bq' lq' pl el ∧ KI N (if aCanRen A f then aRenLoop n (aRename f (wLine A t)) else A)
        rw [if_neg d]
        refine ⟨h, bq, lq, ?_, w, k⟩
        simp only [j_X1_renameAll_b5, j_X1_renameAll_j56, gd_true, ult, ubd, ukd, uwr, url, unz, uhI, uhR, uhL, upI, upR, upL, eKI, eKR, eKL, eNI, eNR, eNL, eTI, eTR, eTL, eIR, eIL, eRI, eRL, eLI, eLR, rIw, rRw, rLw, decide_true, decide_false, ne_eq, not_false_eq_true, not_true_eq_false, true_and, and_true, and_false, false_and, and_self, if_true, if_false, reduceIte, Nat.reduceEqDiff, decide_not, Bool.not_true, Bool.not_false, if_neg le, rq_k w, ad.1, ie, if_neg c, gf, fr.1, cr]
theorem k_renameAll {h : zH} {A : AS} {bq lq pl el : List Nat} (w : RQ h p ic e0 sp A bq lq pl el) (k : KI N A) : ∃ h' bq' lq', j_X1_renameAll h p = some h' ∧ RQ h' p ic e0 sp (aRenameAll A) bq' lq' pl el ∧ KI N (aRenameAll A) := by
  obtain ⟨n, n1, n2, n3⟩ := k.w
  obtain ⟨h', bq', lq', f1, f2, f3⟩ := rn_l n 5 h A bq lq (by omega) n2 w k
  have s5 := rq_s w (k := 5) (by decide)
  have ex : ix (aS A 5) = n := by rw [n3]; exact ix_nI (by omega)
  unfold aRenameAll
  rw [ex]
  refine ⟨h', bq', lq', ?_, f2, f3⟩
  simp only [j_X1_renameAll, gd_true, ult, ubd, ukd, uwr, url, unz, uhI, uhR, uhL, upI, upR, upL, eKI, eKR, eKL, eNI, eNR, eNL, eTI, eTR, eTL, eIR, eIL, eRI, eRL, eLI, eLR, rIw, rRw, rLw, decide_true, decide_false, ne_eq, not_false_eq_true, not_true_eq_false, true_and, and_true, and_false, false_and, and_self, if_true, if_false, reduceIte, Nat.reduceEqDiff, decide_not, Bool.not_true, Bool.not_false, rq_k w, s5, n3]
  exact f1
end KREN4
