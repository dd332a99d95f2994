/-! THE REFERENCE, method by method: what it does (m_) and that it does it (M_): printed by mk30.py -/
set_option maxRecDepth 100000
def m_answers_j159 (k2 : MS → Int32 → Option MS) (k98 : MS → Int32 → Int32 → Int32 → Option MS) (S : MS) (x1 : Int32) (x2 : Int32) (x3 : Int32) : Option MS :=
  k98 S x1 x2 (x3 + (1 : Int32))
def m_answers_j165 (k2 : MS → Int32 → Option MS) (S : MS) (x1 : Int32) : Option MS :=
  k2 S (x1 + (1 : Int32))
def m_answers_b98 (k2 : MS → Int32 → Option MS) (k98 : MS → Int32 → Int32 → Int32 → Option MS) (S : MS) (x1 : Int32) (x2 : Int32) (x3 : Int32) : Option MS :=
  if (mS S 23) ≤ x3 then
    m_answers_j165 k2 S x1
  else
    gd (inb x3 16) <|
    lt (mM S (ix x3)) fun r2 =>
    gd (inb (11 : Int32) 28) <|
    if (mB S r2 (ix (11 : Int32))) = (109 : Int32) then
      gd (inb x3 16) <|
      lt (mM S (ix x3)) fun r5 =>
      gd (inb (14 : Int32) 28) <|
      if ((mB S r5 (ix (14 : Int32))) / (4 : Int32)) = x2 then
        gd (inb x3 16) <|
        lt (mM S (ix x3)) fun r8 =>
        gd (inb (11 : Int32) 28) <|
        lt (tB S r8 (ix (11 : Int32)) (120 : Int32)) fun S10 =>
        gd (inb x3 16) <|
        lt (mM S10 (ix x3)) fun r12 =>
        gd (inb (12 : Int32) 28) <|
        lt (tB S10 r12 (ix (12 : Int32)) (mS S10 36)) fun S14 =>
        m_answers_j159 k2 k98 S14 x1 x2 x3
      else
        m_answers_j159 k2 k98 S x1 x2 x3
    else
      m_answers_j159 k2 k98 S x1 x2 x3
def m_answers_l98 (k2 : MS → Int32 → Option MS) : Nat → MS → Int32 → Int32 → Int32 → Option MS
  | 0 => fun _ _ _ _ => none
  | n + 1 => m_answers_b98 k2 (m_answers_l98 k2 n)
def m_answers_b51 (k2 : MS → Int32 → Option MS) (k51 : MS → Int32 → Int32 → Int32 → Option MS) (S : MS) (x1 : Int32) (x2 : Int32) (x3 : Int32) : Option MS :=
  if (mS S 35) ≤ x3 then
    m_answers_l98 k2 100 S (x1 + (-1 : Int32)) x2 (0 : Int32)
  else
    gd (inb (x3 + (1 : Int32)) 2) <|
    gd (inb x3 2) <|
    lt (tA S 33 (ix x3) (mA S 33 (ix (x3 + (1 : Int32))))) fun S3 =>
    gd (inb (x3 + (1 : Int32)) 2) <|
    gd (inb x3 2) <|
    lt (tA S3 34 (ix x3) (mA S3 34 (ix (x3 + (1 : Int32))))) fun S6 =>
    k51 S6 x1 x2 (x3 + (1 : Int32))
def m_answers_l51 (k2 : MS → Int32 → Option MS) : Nat → MS → Int32 → Int32 → Int32 → Option MS
  | 0 => fun _ _ _ _ => none
  | n + 1 => m_answers_b51 k2 (m_answers_l51 k2 n)
def m_answers_b2 (k2 : MS → Int32 → Option MS) (S : MS) (x1 : Int32) : Option MS :=
  if (mS S 35) ≤ x1 then
    some S
  else
    gd (inb x1 2) <|
    if (mA S 34 (ix x1)) = (mS S 36) then
      gd (inb x1 2) <|
      lt (mA S 33 (ix x1)) fun v3 =>
      gd (inb (irm v3 (4 : Int32)) 4) <|
      lt (tA S 32 (ix (irm v3 (4 : Int32))) v3) fun S5 =>
      lt (tS S5 35 ((mS S5 35) - (1 : Int32))) fun S6 =>
      m_answers_l51 k2 100 S6 x1 v3 x1
    else
      m_answers_j165 k2 S x1
def m_answers_l2 : Nat → MS → Int32 → Option MS
  | 0 => fun _ _ => none
  | n + 1 => m_answers_b2 (m_answers_l2 n)
def m_answers (S : MS) : Option MS :=
  m_answers_l2 100 S (0 : Int32)

set_option maxHeartbeats 40000000 in
theorem M_answers (G : zG) (p : Nat) (g : MG) (q n : Nat) (S : MS) (S9 : MS) (hm : m_answers S = some S9) : zMv G yX3_answers cX3_answers 4 none 0 0 0 p g q n [] S S9 := by
  intro h0 h hI0
  refine zCo.st [some (zrf p), none, none, none] rfl rfl (by simp only [zarg_r, zarg_i, zarg_l, zarg_0]; rfl) (fun X o f0 hin hw0 => ?_)
  have f := f0.e
  refine (?_ : zQ (IM h0 p g q n S) G X 0 0 0 [some (zrf p), none, none, none] []) h hI0 hw0
  clear hI0 hw0
  generalize hR9 : (S9 : MS) = R at hm
  have hl2 : ∀ (n2 : Nat), n2 ≤ 100 → ∀ (S : MS) (x1 : Int32) (cl sl : Nat), cl + (0) ≤ 0 → sl + (0) ≤ 0 → m_answers_l2 n2 S x1 = some R → zQ (IM h0 p g q n S) G X cl sl 2 [some (zrf p), some (.int x1), none, none] [] := by
    intro n2
    induction n2 with
    | zero => intro _ S x1 cl sl _ _ hm; exact no_e hm
    | succ n2 ih =>
      intro hf2
      have ih2 := ih (by omega)
      have hj165 : ∀ (S : MS) (x1 : Int32) (cl sl : Nat), cl + (0) ≤ 0 → sl + (0) ≤ 0 → m_answers_j165 (m_answers_l2 n2) S x1 = some R → zQ (IM h0 p g q n S) G X cl sl 165 [some (zrf p), some (.int x1), none, none] [] := by
        intro S x1 cl sl hc hs hm
        unfold m_answers_j165 at hm
        refine zQ.s (fun h => zs_iinc (i := 1) (v := x1 + (1 : Int32)) o dX3_answers_165 rfl rfl (by decide) (Or.inr (zc2_ref rfl)) (by simp only [List.set_cons_succ, List.set_cons_zero]; rfl)) ?_
        refine zQ.s (fun h => zs_goto (tgt := 2) o dX3_answers_168 (by decide)) ?_
        exact ih2 _ _ _ _ (by omega) (by omega) hm
      have hl98 : ∀ (n98 : Nat), n98 ≤ 100 → ∀ (S : MS) (x1 : Int32) (x2 : Int32) (x3 : Int32) (cl sl : Nat), cl + (0) ≤ 0 → sl + (0) ≤ 0 → m_answers_l98 (m_answers_l2 n2) n98 S x1 x2 x3 = some R → zQ (IM h0 p g q n S) G X cl sl 98 [some (zrf p), some (.int x1), some (.int x2), some (.int x3)] [] := by
        intro n98
        induction n98 with
        | zero => intro _ S x1 x2 x3 cl sl _ _ hm; exact no_e hm
        | succ n98 ih =>
          intro hf98
          have ih98 := ih (by omega)
          have hj159 : ∀ (S : MS) (x1 : Int32) (x2 : Int32) (x3 : Int32) (cl sl : Nat), cl + (0) ≤ 0 → sl + (0) ≤ 0 → m_answers_j159 (m_answers_l2 n2) (m_answers_l98 (m_answers_l2 n2) n98) S x1 x2 x3 = some R → zQ (IM h0 p g q n S) G X cl sl 159 [some (zrf p), some (.int x1), some (.int x2), some (.int x3)] [] := by
            intro S x1 x2 x3 cl sl hc hs hm
            unfold m_answers_j159 at hm
            refine zQ.s (fun h => zs_iinc (i := 3) (v := x3 + (1 : Int32)) o dX3_answers_159 rfl rfl (by decide) (Or.inr rfl) (by simp only [List.set_cons_succ, List.set_cons_zero]; rfl)) ?_
            refine zQ.s (fun h => zs_goto (tgt := 98) o dX3_answers_162 (by decide)) ?_
            exact ih98 _ _ _ _ _ _ (by omega) (by omega) hm
          intro S x1 x2 x3 cl sl hc hs hm
          have hm : m_answers_b98 (m_answers_l2 n2) (m_answers_l98 (m_answers_l2 n2) n98) S x1 x2 x3 = some R := hm
          unfold m_answers_b98 at hm
          refine zQ.s (fun h => zs_iload_n (i := 3) o dX3_answers_98 rfl rfl) ?_
          refine zQ.s (fun h => zs_aload_n (i := 0) o dX3_answers_99 rfl rfl) ?_
          refine zm_getI o fl_X3_198_3 rfl dX3_answers_100 ?_
          refine zQ.b (fun h => zs_icmp_ge (tgt := 165) o dX3_answers_103 (by decide)) (fun c => ?_) (fun c => ?_)
          · have hm := if_e1 hm c
            refine zQ.fg (zl_s (zl_s (zl_n (zl_n zl_0)))) ?_
            exact hj165 _ _ _ _ (by omega) (by omega) hm
          · have hm := if_e2 hm c
            refine zQ.s (fun h => zs_aload_n (i := 0) o dX3_answers_106 rfl rfl) ?_
            refine zm_getR o fl_X3_74_3 rfl dX3_answers_107 ?_
            refine zQ.s (fun h => zs_iload_n (i := 3) o dX3_answers_110 rfl rfl) ?_
            obtain ⟨g1, hm⟩ := gd_e hm
            obtain ⟨r2, e_r2, hm⟩ := lt_e hm
            refine zm_row o dX3_answers_111 g1 e_r2 (fun h_r2 => ?_)
            refine zQ.s (fun h => zs_bipush (v := 11) o dX3_answers_112 (by decide)) ?_
            obtain ⟨g3, hm⟩ := gd_e hm
            refine zm_rald o h_r2 dX3_answers_114 g3 ?_
            refine zQ.s (fun h => zs_bipush (v := 109) o dX3_answers_115 (by decide)) ?_
            refine zQ.b (fun h => zs_icmp_ne (tgt := 159) o dX3_answers_117 (by decide)) (fun c => ?_) (fun c => ?_)
            · have hm := if_e2 hm c
              exact hj159 _ _ _ _ _ _ (by omega) (by omega) hm
            · have hm := if_e1 hm c
              refine zQ.s (fun h => zs_aload_n (i := 0) o dX3_answers_120 rfl rfl) ?_
              refine zm_getR o fl_X3_74_3 rfl dX3_answers_121 ?_
              refine zQ.s (fun h => zs_iload_n (i := 3) o dX3_answers_124 rfl rfl) ?_
              obtain ⟨g4, hm⟩ := gd_e hm
              obtain ⟨r5, e_r5, hm⟩ := lt_e hm
              refine zm_row o dX3_answers_125 g4 e_r5 (fun h_r5 => ?_)
              refine zQ.s (fun h => zs_bipush (v := 14) o dX3_answers_126 (by decide)) ?_
              obtain ⟨g6, hm⟩ := gd_e hm
              refine zm_rald o h_r5 dX3_answers_128 g6 ?_
              refine zQ.s (fun h => zs_iconst (v := 4) o dX3_answers_129 (by decide)) ?_
              refine zQ.s (fun h => zs_idiv o dX3_answers_130 (by decide)) ?_
              refine zQ.s (fun h => zs_iload_n (i := 2) o dX3_answers_131 rfl rfl) ?_
              refine zQ.b (fun h => zs_icmp_ne (tgt := 159) o dX3_answers_132 (by decide)) (fun c => ?_) (fun c => ?_)
              · have hm := if_e2 hm c
                exact hj159 _ _ _ _ _ _ (by omega) (by omega) hm
              · have hm := if_e1 hm c
                refine zQ.s (fun h => zs_aload_n (i := 0) o dX3_answers_135 rfl rfl) ?_
                refine zm_getR o fl_X3_74_3 rfl dX3_answers_136 ?_
                refine zQ.s (fun h => zs_iload_n (i := 3) o dX3_answers_139 rfl rfl) ?_
                obtain ⟨g7, hm⟩ := gd_e hm
                obtain ⟨r8, e_r8, hm⟩ := lt_e hm
                refine zm_row o dX3_answers_140 g7 e_r8 (fun h_r8 => ?_)
                refine zQ.s (fun h => zs_bipush (v := 11) o dX3_answers_141 (by decide)) ?_
                refine zQ.s (fun h => zs_bipush (v := 120) o dX3_answers_143 (by decide)) ?_
                obtain ⟨g9, hm⟩ := gd_e hm
                obtain ⟨S10, e_S10, hm⟩ := lt_e hm
                refine zm_rast o h_r8 dX3_answers_145 g9 e_S10 ?_
                refine zQ.s (fun h => zs_aload_n (i := 0) o dX3_answers_146 rfl rfl) ?_
                refine zm_getR o fl_X3_74_3 rfl dX3_answers_147 ?_
                refine zQ.s (fun h => zs_iload_n (i := 3) o dX3_answers_150 rfl rfl) ?_
                obtain ⟨g11, hm⟩ := gd_e hm
                obtain ⟨r12, e_r12, hm⟩ := lt_e hm
                refine zm_row o dX3_answers_151 g11 e_r12 (fun h_r12 => ?_)
                refine zQ.s (fun h => zs_bipush (v := 12) o dX3_answers_152 (by decide)) ?_
                refine zQ.s (fun h => zs_aload_n (i := 0) o dX3_answers_154 rfl rfl) ?_
                refine zm_getI o fl_X3_133_3 rfl dX3_answers_155 ?_
                obtain ⟨g13, hm⟩ := gd_e hm
                obtain ⟨S14, e_S14, hm⟩ := lt_e hm
                refine zm_rast o h_r12 dX3_answers_158 g13 e_S14 ?_
                exact hj159 _ _ _ _ _ _ (by omega) (by omega) hm
      have hl51 : ∀ (n51 : Nat), n51 ≤ 100 → ∀ (S : MS) (x1 : Int32) (x2 : Int32) (x3 : Int32) (cl sl : Nat), cl + (0) ≤ 0 → sl + (0) ≤ 0 → m_answers_l51 (m_answers_l2 n2) n51 S x1 x2 x3 = some R → zQ (IM h0 p g q n S) G X cl sl 51 [some (zrf p), some (.int x1), some (.int x2), some (.int x3)] [] := by
        intro n51
        induction n51 with
        | zero => intro _ S x1 x2 x3 cl sl _ _ hm; exact no_e hm
        | succ n51 ih =>
          intro hf51
          have ih51 := ih (by omega)
          intro S x1 x2 x3 cl sl hc hs hm
          have hm : m_answers_b51 (m_answers_l2 n2) (m_answers_l51 (m_answers_l2 n2) n51) S x1 x2 x3 = some R := hm
          unfold m_answers_b51 at hm
          refine zQ.s (fun h => zs_iload_n (i := 3) o dX3_answers_51 rfl rfl) ?_
          refine zQ.s (fun h => zs_aload_n (i := 0) o dX3_answers_52 rfl rfl) ?_
          refine zm_getI o fl_X3_222_3 rfl dX3_answers_53 ?_
          refine zQ.b (fun h => zs_icmp_ge (tgt := 93) o dX3_answers_56 (by decide)) (fun c => ?_) (fun c => ?_)
          · have hm := if_e1 hm c
            refine zQ.s (fun h => zs_iinc (i := 1) (v := x1 + (-1 : Int32)) o dX3_answers_93 rfl rfl (by decide) (Or.inr (zc2_ref rfl)) (by simp only [List.set_cons_succ, List.set_cons_zero]; rfl)) ?_
            refine zQ.s (fun h => zs_iconst (v := 0) o dX3_answers_96 (by decide)) ?_
            refine zQ.s (fun h => zs_istore_n (i := 3) o dX3_answers_97 rfl (by decide) (Or.inr rfl) (by simp only [List.set_cons_succ, List.set_cons_zero]; rfl)) ?_
            exact hl98 100 (Nat.le_refl _) _ _ _ _ _ _ (by omega) (by omega) hm
          · have hm := if_e2 hm c
            refine zQ.s (fun h => zs_aload_n (i := 0) o dX3_answers_59 rfl rfl) ?_
            refine zm_getR o fl_X3_95_3 rfl dX3_answers_60 ?_
            refine zQ.s (fun h => zs_iload_n (i := 3) o dX3_answers_63 rfl rfl) ?_
            refine zQ.s (fun h => zs_aload_n (i := 0) o dX3_answers_64 rfl rfl) ?_
            refine zm_getR o fl_X3_95_3 rfl dX3_answers_65 ?_
            refine zQ.s (fun h => zs_iload_n (i := 3) o dX3_answers_68 rfl rfl) ?_
            refine zQ.s (fun h => zs_iconst (v := 1) o dX3_answers_69 (by decide)) ?_
            refine zQ.s (fun h => zs_iadd o dX3_answers_70) ?_
            obtain ⟨g1, hm⟩ := gd_e hm
            refine zm_iald o rfl dX3_answers_71 g1 ?_
            obtain ⟨g2, hm⟩ := gd_e hm
            obtain ⟨S3, e_S3, hm⟩ := lt_e hm
            refine zm_iast o rfl dX3_answers_72 g2 e_S3 ?_
            refine zQ.s (fun h => zs_aload_n (i := 0) o dX3_answers_73 rfl rfl) ?_
            refine zm_getR o fl_X3_98_3 rfl dX3_answers_74 ?_
            refine zQ.s (fun h => zs_iload_n (i := 3) o dX3_answers_77 rfl rfl) ?_
            refine zQ.s (fun h => zs_aload_n (i := 0) o dX3_answers_78 rfl rfl) ?_
            refine zm_getR o fl_X3_98_3 rfl dX3_answers_79 ?_
            refine zQ.s (fun h => zs_iload_n (i := 3) o dX3_answers_82 rfl rfl) ?_
            refine zQ.s (fun h => zs_iconst (v := 1) o dX3_answers_83 (by decide)) ?_
            refine zQ.s (fun h => zs_iadd o dX3_answers_84) ?_
            obtain ⟨g4, hm⟩ := gd_e hm
            refine zm_iald o rfl dX3_answers_85 g4 ?_
            obtain ⟨g5, hm⟩ := gd_e hm
            obtain ⟨S6, e_S6, hm⟩ := lt_e hm
            refine zm_iast o rfl dX3_answers_86 g5 e_S6 ?_
            refine zQ.s (fun h => zs_iinc (i := 3) (v := x3 + (1 : Int32)) o dX3_answers_87 rfl rfl (by decide) (Or.inr rfl) (by simp only [List.set_cons_succ, List.set_cons_zero]; rfl)) ?_
            refine zQ.s (fun h => zs_goto (tgt := 51) o dX3_answers_90 (by decide)) ?_
            exact ih51 _ _ _ _ _ _ (by omega) (by omega) hm
      intro S x1 cl sl hc hs hm
      have hm : m_answers_b2 (m_answers_l2 n2) S x1 = some R := hm
      unfold m_answers_b2 at hm
      refine zQ.s (fun h => zs_iload_n (i := 1) o dX3_answers_2 rfl rfl) ?_
      refine zQ.s (fun h => zs_aload_n (i := 0) o dX3_answers_3 rfl rfl) ?_
      refine zm_getI o fl_X3_222_3 rfl dX3_answers_4 ?_
      refine zQ.b (fun h => zs_icmp_ge (tgt := 171) o dX3_answers_7 (by decide)) (fun c => ?_) (fun c => ?_)
      · have hm := if_e1 hm c
        refine zm_retv o f dX3_answers_171 (by omega) (by omega) ((so_e hm).trans hR9.symm)
      · have hm := if_e2 hm c
        refine zQ.s (fun h => zs_aload_n (i := 0) o dX3_answers_10 rfl rfl) ?_
        refine zm_getR o fl_X3_98_3 rfl dX3_answers_11 ?_
        refine zQ.s (fun h => zs_iload_n (i := 1) o dX3_answers_14 rfl rfl) ?_
        obtain ⟨g1, hm⟩ := gd_e hm
        refine zm_iald o rfl dX3_answers_15 g1 ?_
        refine zQ.s (fun h => zs_aload_n (i := 0) o dX3_answers_16 rfl rfl) ?_
        refine zm_getI o fl_X3_133_3 rfl dX3_answers_17 ?_
        refine zQ.b (fun h => zs_icmp_ne (tgt := 165) o dX3_answers_20 (by decide)) (fun c => ?_) (fun c => ?_)
        · have hm := if_e2 hm c
          exact hj165 _ _ _ _ (by omega) (by omega) hm
        · have hm := if_e1 hm c
          refine zQ.s (fun h => zs_aload_n (i := 0) o dX3_answers_23 rfl rfl) ?_
          refine zm_getR o fl_X3_95_3 rfl dX3_answers_24 ?_
          refine zQ.s (fun h => zs_iload_n (i := 1) o dX3_answers_27 rfl rfl) ?_
          obtain ⟨g2, hm⟩ := gd_e hm
          refine zm_iald o rfl dX3_answers_28 g2 ?_
          obtain ⟨v3, e_v3, hm⟩ := lt_e hm
          refine zQ.nmi e_v3 ?_
          refine zQ.s (fun h => zs_istore_n (i := 2) o dX3_answers_29 rfl (by decide) (Or.inr rfl) (by simp only [List.set_cons_succ, List.set_cons_zero]; rfl)) ?_
          refine zQ.s (fun h => zs_aload_n (i := 0) o dX3_answers_30 rfl rfl) ?_
          refine zm_getR o fl_X3_92_3 rfl dX3_answers_31 ?_
          refine zQ.s (fun h => zs_iload_n (i := 2) o dX3_answers_34 rfl rfl) ?_
          refine zQ.s (fun h => zs_iconst (v := 4) o dX3_answers_35 (by decide)) ?_
          refine zQ.s (fun h => zs_irem o dX3_answers_36 (by decide)) ?_
          refine zQ.s (fun h => zs_iload_n (i := 2) o dX3_answers_37 rfl rfl) ?_
          obtain ⟨g4, hm⟩ := gd_e hm
          obtain ⟨S5, e_S5, hm⟩ := lt_e hm
          refine zm_iast o rfl dX3_answers_38 g4 e_S5 ?_
          refine zQ.s (fun h => zs_aload_n (i := 0) o dX3_answers_39 rfl rfl) ?_
          refine zQ.s (fun h => zs_dup o dX3_answers_40 (by first | rfl | exact zrf_cat _)) ?_
          refine zm_getI o fl_X3_222_3 rfl dX3_answers_41 ?_
          refine zQ.s (fun h => zs_iconst (v := 1) o dX3_answers_44 (by decide)) ?_
          refine zQ.s (fun h => zs_isub o dX3_answers_45) ?_
          obtain ⟨S6, e_S6, hm⟩ := lt_e hm
          refine zm_putI o fl_X3_222_3 rfl rfl ⟨rfl, rfl⟩ dX3_answers_46 e_S6 ?_
          refine zQ.s (fun h => zs_iload_n (i := 1) o dX3_answers_49 rfl rfl) ?_
          refine zQ.s (fun h => zs_istore_n (i := 3) o dX3_answers_50 rfl (by decide) (Or.inr rfl) (by simp only [List.set_cons_succ, List.set_cons_zero]; rfl)) ?_
          exact hl51 100 (Nat.le_refl _) _ _ _ _ _ _ (by omega) (by omega) hm
  unfold m_answers at hm
  refine zQ.s (fun h => zs_iconst (v := 0) o dX3_answers_0 (by decide)) ?_
  refine zQ.s (fun h => zs_istore_n (i := 1) o dX3_answers_1 rfl (by decide) (Or.inr (zc2_ref rfl)) (by simp only [List.set_cons_succ, List.set_cons_zero]; rfl)) ?_
  exact hl2 100 (Nat.le_refl _) _ _ _ _ (by omega) (by omega) hm

def m_throwsFrom_j70 (k7 : MS → Int32 → Int32 → Option MS) (S : MS) (x1 : Int32) (x2 : Int32) : Option MS :=
  lt (tS S 50 ((mS S 50) + (1 : Int32))) fun S1 =>
  k7 S1 x1 (x2 + (-1 : Int32))
def m_throwsFrom_b7 (k7 : MS → Int32 → Int32 → Option MS) (S : MS) (x1 : Int32) (x2 : Int32) : Option MS :=
  if x2 < x1 then
    lt (tS S 23 (imn (mS S 23) x1)) fun S1 =>
    some S1
  else
    gd (inb x2 16) <|
    lt (mM S (ix x2)) fun r3 =>
    bd (m_codeOf S r3) fun y4 =>
    bd (m_hasD y4.2) fun y5 =>
    if y5 = (0 : Int32) then
      m_throwsFrom_j70 k7 y4.1 x1 x2
    else
      gd (inb (0 : Int32) 28) <|
      gd (inb (mB y4.1 r3 (ix (0 : Int32))) 64) <|
      gd (inb (10 : Int32) 28) <|
      gd (inb (mA y4.1 1 (ix (mB y4.1 r3 (ix (0 : Int32))))) 8) <|
      lt (tA y4.1 16 (ix (mA y4.1 1 (ix (mB y4.1 r3 (ix (0 : Int32)))))) (mB y4.1 r3 (ix (10 : Int32)))) fun S10 =>
      gd (inb (9 : Int32) 28) <|
      gd (inb (mS S10 21) 24) <|
      lt (tA S10 20 (ix (mS S10 21)) (mB S10 r3 (ix (9 : Int32)))) fun S13 =>
      lt (tS S13 21 ((mS S13 21) + (1 : Int32))) fun S14 =>
      m_throwsFrom_j70 k7 S14 x1 x2
def m_throwsFrom_l7 : Nat → MS → Int32 → Int32 → Option MS
  | 0 => fun _ _ _ => none
  | n + 1 => m_throwsFrom_b7 (m_throwsFrom_l7 n)
def m_throwsFrom (S : MS) (a1 : Int32) : Option MS :=
  lt ((mS S 23) - (1 : Int32)) fun v1 =>
  m_throwsFrom_l7 100 S a1 v1

set_option maxHeartbeats 40000000 in
theorem M_throwsFrom (G : zG) (p : Nat) (g : MG) (q n : Nat) (S : MS) (a1 : Int32) (S9 : MS) (hm : m_throwsFrom S a1 = some S9) : zMv G yX3_throwsFrom cX3_throwsFrom 4 none 2 0 0 p g q n [.int a1] S S9 := by
  intro h0 h hI0
  refine zCo.st [some (zrf p), some (.int a1), none, none] rfl rfl (by simp only [zarg_r, zarg_i, zarg_l, zarg_0]; rfl) (fun X o f0 hin hw0 => ?_)
  have f := f0.e
  refine (?_ : zQ (IM h0 p g q n S) G X 0 0 0 [some (zrf p), some (.int a1), none, none] []) h hI0 hw0
  clear hI0 hw0
  generalize hR9 : (S9 : MS) = R at hm
  have hl7 : ∀ (n7 : Nat), n7 ≤ 100 → ∀ (S : MS) (x1 : Int32) (x2 : Int32) (cl sl : Nat), cl + (0) ≤ 0 → sl + (0) ≤ 0 → m_throwsFrom_l7 n7 S x1 x2 = some R → zQ (IM h0 p g q n S) G X cl sl 7 [some (zrf p), some (.int x1), some (.int x2), none] [] := by
    intro n7
    induction n7 with
    | zero => intro _ S x1 x2 cl sl _ _ hm; exact no_e hm
    | succ n7 ih =>
      intro hf7
      have ih7 := ih (by omega)
      have hj70 : ∀ (S : MS) (x1 : Int32) (x2 : Int32) (cl sl : Nat), cl + (0) ≤ 0 → sl + (0) ≤ 0 → m_throwsFrom_j70 (m_throwsFrom_l7 n7) S x1 x2 = some R → zQ (IM h0 p g q n S) G X cl sl 70 [some (zrf p), some (.int x1), some (.int x2), none] [] := by
        intro S x1 x2 cl sl hc hs hm
        unfold m_throwsFrom_j70 at hm
        refine zQ.s (fun h => zs_aload_n (i := 0) o dX3_throwsFrom_70 rfl rfl) ?_
        refine zQ.s (fun h => zs_dup o dX3_throwsFrom_71 (by first | rfl | exact zrf_cat _)) ?_
        refine zm_getI o fl_X3_253_3 rfl dX3_throwsFrom_72 ?_
        refine zQ.s (fun h => zs_iconst (v := 1) o dX3_throwsFrom_75 (by decide)) ?_
        refine zQ.s (fun h => zs_iadd o dX3_throwsFrom_76) ?_
        obtain ⟨S1, e_S1, hm⟩ := lt_e hm
        refine zm_putI o fl_X3_253_3 rfl rfl ⟨rfl, rfl⟩ dX3_throwsFrom_77 e_S1 ?_
        refine zQ.s (fun h => zs_iinc (i := 2) (v := x2 + (-1 : Int32)) o dX3_throwsFrom_80 rfl rfl (by decide) (Or.inr rfl) (by simp only [List.set_cons_succ, List.set_cons_zero]; rfl)) ?_
        refine zQ.s (fun h => zs_goto (tgt := 7) o dX3_throwsFrom_83 (by decide)) ?_
        exact ih7 _ _ _ _ _ (by omega) (by omega) hm
      intro S x1 x2 cl sl hc hs hm
      have hm : m_throwsFrom_b7 (m_throwsFrom_l7 n7) S x1 x2 = some R := hm
      unfold m_throwsFrom_b7 at hm
      refine zQ.s (fun h => zs_iload_n (i := 2) o dX3_throwsFrom_7 rfl rfl) ?_
      refine zQ.s (fun h => zs_iload_n (i := 1) o dX3_throwsFrom_8 rfl rfl) ?_
      refine zQ.b (fun h => zs_icmp_lt (tgt := 86) o dX3_throwsFrom_9 (by decide)) (fun c => ?_) (fun c => ?_)
      · have hm := if_e1 hm c
        refine zQ.s (fun h => zs_aload_n (i := 0) o dX3_throwsFrom_86 rfl rfl) ?_
        refine zQ.s (fun h => zs_aload_n (i := 0) o dX3_throwsFrom_87 rfl rfl) ?_
        refine zm_getI o fl_X3_198_3 rfl dX3_throwsFrom_88 ?_
        refine zQ.s (fun h => zs_iload_n (i := 1) o dX3_throwsFrom_91 rfl rfl) ?_
        refine zQ.s (fun h => zs_mmin o q2813 q421 q127 q422 rfl rfl (by omega) (by omega) dX3_throwsFrom_92) ?_
        obtain ⟨S1, e_S1, hm⟩ := lt_e hm
        refine zm_putI o fl_X3_198_3 rfl rfl ⟨rfl, rfl⟩ dX3_throwsFrom_95 e_S1 ?_
        refine zm_retv o f dX3_throwsFrom_98 (by omega) (by omega) ((so_e hm).trans hR9.symm)
      · have hm := if_e2 hm c
        refine zQ.s (fun h => zs_aload_n (i := 0) o dX3_throwsFrom_12 rfl rfl) ?_
        refine zm_getR o fl_X3_74_3 rfl dX3_throwsFrom_13 ?_
        refine zQ.s (fun h => zs_iload_n (i := 2) o dX3_throwsFrom_16 rfl rfl) ?_
        obtain ⟨g2, hm⟩ := gd_e hm
        obtain ⟨r3, e_r3, hm⟩ := lt_e hm
        refine zm_row o dX3_throwsFrom_17 g2 e_r3 (fun h_r3 => ?_)
        refine zQ.s (fun h => zs_astore_n (i := 3) o dX3_throwsFrom_18 rfl (by decide) (Or.inr rfl) (by simp only [List.set_cons_succ, List.set_cons_zero]; rfl)) ?_
        refine zQ.s (fun h => zs_aload_n (i := 0) o dX3_throwsFrom_19 rfl rfl) ?_
        refine zQ.s (fun h => zs_aload_n (i := 3) o dX3_throwsFrom_20 rfl rfl) ?_
        obtain ⟨y4, c_y4, hm⟩ := bd_e hm
        refine zm_Vi o ml_X3_201 (M_codeOf G p g _ _ _ _ h_r3 _ _ c_y4) dX3_throwsFrom_21 rfl rfl rfl rfl (by omega) (by omega) ?_
        obtain ⟨y5, c_y5, hm⟩ := bd_e hm
        refine zQ_Si o ml_X3_209 (M_hasD G _ _ c_y5) dX3_throwsFrom_24 rfl rfl rfl rfl (by omega) (by omega) ?_
        refine zQ.b (fun h => zs_if_eq (tgt := 70) o dX3_throwsFrom_27 (by decide)) (fun c => ?_) (fun c => ?_)
        · have hm := if_e1 hm c
          refine zQ.fg (zl_s (zl_s (zl_s (zl_n zl_0)))) ?_
          exact hj70 _ _ _ _ _ (by omega) (by omega) hm
        · have hm := if_e2 hm c
          refine zQ.s (fun h => zs_aload_n (i := 0) o dX3_throwsFrom_30 rfl rfl) ?_
          refine zm_getR o fl_X3_56_3 rfl dX3_throwsFrom_31 ?_
          refine zQ.s (fun h => zs_aload_n (i := 0) o dX3_throwsFrom_34 rfl rfl) ?_
          refine zm_getR o fl_X3_13_3 rfl dX3_throwsFrom_35 ?_
          refine zQ.s (fun h => zs_aload_n (i := 3) o dX3_throwsFrom_38 rfl rfl) ?_
          refine zQ.s (fun h => zs_iconst (v := 0) o dX3_throwsFrom_39 (by decide)) ?_
          obtain ⟨g6, hm⟩ := gd_e hm
          refine zm_rald o h_r3 dX3_throwsFrom_40 g6 ?_
          obtain ⟨g7, hm⟩ := gd_e hm
          refine zm_iald o rfl dX3_throwsFrom_41 g7 ?_
          refine zQ.s (fun h => zs_aload_n (i := 3) o dX3_throwsFrom_42 rfl rfl) ?_
          refine zQ.s (fun h => zs_bipush (v := 10) o dX3_throwsFrom_43 (by decide)) ?_
          obtain ⟨g8, hm⟩ := gd_e hm
          refine zm_rald o h_r3 dX3_throwsFrom_45 g8 ?_
          obtain ⟨g9, hm⟩ := gd_e hm
          obtain ⟨S10, e_S10, hm⟩ := lt_e hm
          refine zm_iast o rfl dX3_throwsFrom_46 g9 e_S10 ?_
          refine zQ.s (fun h => zs_aload_n (i := 0) o dX3_throwsFrom_47 rfl rfl) ?_
          refine zm_getR o fl_X3_69_3 rfl dX3_throwsFrom_48 ?_
          refine zQ.s (fun h => zs_aload_n (i := 0) o dX3_throwsFrom_51 rfl rfl) ?_
          refine zm_getI o fl_X3_126_3 rfl dX3_throwsFrom_52 ?_
          refine zQ.s (fun h => zs_aload_n (i := 3) o dX3_throwsFrom_55 rfl rfl) ?_
          refine zQ.s (fun h => zs_bipush (v := 9) o dX3_throwsFrom_56 (by decide)) ?_
          obtain ⟨g11, hm⟩ := gd_e hm
          refine zm_rald o h_r3 dX3_throwsFrom_58 g11 ?_
          obtain ⟨g12, hm⟩ := gd_e hm
          obtain ⟨S13, e_S13, hm⟩ := lt_e hm
          refine zm_iast o rfl dX3_throwsFrom_59 g12 e_S13 ?_
          refine zQ.s (fun h => zs_aload_n (i := 0) o dX3_throwsFrom_60 rfl rfl) ?_
          refine zQ.s (fun h => zs_dup o dX3_throwsFrom_61 (by first | rfl | exact zrf_cat _)) ?_
          refine zm_getI o fl_X3_126_3 rfl dX3_throwsFrom_62 ?_
          refine zQ.s (fun h => zs_iconst (v := 1) o dX3_throwsFrom_65 (by decide)) ?_
          refine zQ.s (fun h => zs_iadd o dX3_throwsFrom_66) ?_
          obtain ⟨S14, e_S14, hm⟩ := lt_e hm
          refine zm_putI o fl_X3_126_3 rfl rfl ⟨rfl, rfl⟩ dX3_throwsFrom_67 e_S14 ?_
          refine zQ.fg (zl_s (zl_s (zl_s (zl_n zl_0)))) ?_
          exact hj70 _ _ _ _ _ (by omega) (by omega) hm
  unfold m_throwsFrom at hm
  refine zQ.s (fun h => zs_aload_n (i := 0) o dX3_throwsFrom_0 rfl rfl) ?_
  refine zm_getI o fl_X3_198_3 rfl dX3_throwsFrom_1 ?_
  refine zQ.s (fun h => zs_iconst (v := 1) o dX3_throwsFrom_4 (by decide)) ?_
  refine zQ.s (fun h => zs_isub o dX3_throwsFrom_5) ?_
  obtain ⟨v1, e_v1, hm⟩ := lt_e hm
  refine zQ.nmi e_v1 ?_
  refine zQ.s (fun h => zs_istore_n (i := 2) o dX3_throwsFrom_6 rfl (by decide) (Or.inr rfl) (by simp only [List.set_cons_succ, List.set_cons_zero]; rfl)) ?_
  exact hl7 100 (Nat.le_refl _) _ _ _ _ _ (by omega) (by omega) hm

def m_result_j104 (S : MS) (s0 : Int32) : Option (MS × Int32) :=
  some (S, s0)
def m_result_j123 (S : MS) (s0 : Int32) : Option (MS × Int32) :=
  some (S, s0)
def m_result_j159 (S : MS) (s0 : Int32) : Option (MS × Int32) :=
  some (S, s0)
def m_result (S : MS) (a1 : Nat) : Option (MS × Int32) :=
  gd (inb (7 : Int32) 28) <|
  gd (inb (mB S a1 (ix (7 : Int32))) 24) <|
  lt (mA S 18 (ix (mB S a1 (ix (7 : Int32))))) fun v3 =>
  gd (inb (8 : Int32) 28) <|
  gd (inb (mB S a1 (ix (8 : Int32))) 24) <|
  lt (mA S 18 (ix (mB S a1 (ix (8 : Int32))))) fun v6 =>
  bd (m_codeOf S a1) fun y7 =>
  if y7.2 = (1 : Int32) then
    gd (inb (0 : Int32) 28) <|
    gd (inb (mB y7.1 a1 (ix (0 : Int32))) 64) <|
    some (y7.1, mA y7.1 4 (ix (mB y7.1 a1 (ix (0 : Int32)))))
  else
  if y7.2 = (2 : Int32) then
    some (y7.1, v3 + v6)
  else
  if y7.2 = (3 : Int32) then
    some (y7.1, v3 - v6)
  else
  if y7.2 = (4 : Int32) then
    some (y7.1, v3 * v6)
  else
  if y7.2 = (5 : Int32) then
    if v6 = (0 : Int32) then
      m_result_j104 y7.1 (0 : Int32)
    else
      gd (nz v6) <|
      m_result_j104 y7.1 (v3 / v6)
  else
  if y7.2 = (6 : Int32) then
    some (y7.1, v3 &&& v6)
  else
  if y7.2 = (7 : Int32) then
    some (y7.1, v3 ^^^ v6)
  else
  if y7.2 = (8 : Int32) then
    if v6 ≤ v3 then
      m_result_j123 y7.1 (0 : Int32)
    else
      m_result_j123 y7.1 (1 : Int32)
  else
  gd (inb (13 : Int32) 28) <|
  if (mB y7.1 a1 (ix (13 : Int32))) ≤ (0 : Int32) then
    gd (inb (16 : Int32) 28) <|
    if (mB y7.1 a1 (ix (16 : Int32))) = (-1 : Int32) then
      gd (inb (14 : Int32) 28) <|
      gd (inb (mB y7.1 a1 (ix (14 : Int32))) 64) <|
      m_result_j159 y7.1 (mA y7.1 15 (ix (mB y7.1 a1 (ix (14 : Int32)))))
    else
      gd (inb (15 : Int32) 28) <|
      m_result_j159 y7.1 (mB y7.1 a1 (ix (15 : Int32)))
  else
    m_result_j159 y7.1 (0 : Int32)

set_option maxHeartbeats 40000000 in
theorem M_result (G : zG) (p : Nat) (g : MG) (q n : Nat) (S : MS) (a1 : Nat) (h_a1 : a1 < 16) (V : Int32) (S9 : MS) (hm : m_result S a1 = some (S9, V)) : zMi G yX3_result cX3_result 4 (some .int) 1 0 0 p g q n [zrf (g.2.1 a1)] S V S9 := by
  intro h0 h hI0
  refine zCo.st [some (zrf p), some (zrf (g.2.1 a1)), none, none] rfl rfl (by simp only [zarg_r, zarg_i, zarg_l, zarg_0]; rfl) (fun X o f0 hin hw0 => ?_)
  have f := f0.e
  refine (?_ : zQ (IM h0 p g q n S) G X 0 0 0 [some (zrf p), some (zrf (g.2.1 a1)), none, none] []) h hI0 hw0
  clear hI0 hw0
  generalize hR9 : ((S9, V) : (MS × Int32)) = R at hm
  have hj104 : ∀ (S : MS) (s0 : Int32) (cl sl : Nat), cl + (0) ≤ 0 → sl + (0) ≤ 0 → m_result_j104 S s0 = some R → zQ (IM h0 p g q n S) G X cl sl 104 [none, none, none, none] [.int s0] := by
    intro S s0 cl sl hc hs hm
    unfold m_result_j104 at hm
    refine zm_reti o f dX3_result_104 rfl (by omega) (by omega) ((so_e hm).trans hR9.symm)
  have hj123 : ∀ (S : MS) (s0 : Int32) (cl sl : Nat), cl + (0) ≤ 0 → sl + (0) ≤ 0 → m_result_j123 S s0 = some R → zQ (IM h0 p g q n S) G X cl sl 123 [none, none, none, none] [.int s0] := by
    intro S s0 cl sl hc hs hm
    unfold m_result_j123 at hm
    refine zm_reti o f dX3_result_123 rfl (by omega) (by omega) ((so_e hm).trans hR9.symm)
  have hj159 : ∀ (S : MS) (s0 : Int32) (cl sl : Nat), cl + (0) ≤ 0 → sl + (0) ≤ 0 → m_result_j159 S s0 = some R → zQ (IM h0 p g q n S) G X cl sl 159 [none, none, none, none] [.int s0] := by
    intro S s0 cl sl hc hs hm
    unfold m_result_j159 at hm
    refine zm_reti o f dX3_result_159 rfl (by omega) (by omega) ((so_e hm).trans hR9.symm)
  unfold m_result at hm
  refine zQ.s (fun h => zs_aload_n (i := 0) o dX3_result_0 rfl rfl) ?_
  refine zm_getR o fl_X3_62_3 rfl dX3_result_1 ?_
  refine zQ.s (fun h => zs_aload_n (i := 1) o dX3_result_4 rfl rfl) ?_
  refine zQ.s (fun h => zs_bipush (v := 7) o dX3_result_5 (by decide)) ?_
  obtain ⟨g1, hm⟩ := gd_e hm
  refine zm_rald o h_a1 dX3_result_7 g1 ?_
  obtain ⟨g2, hm⟩ := gd_e hm
  refine zm_iald o rfl dX3_result_8 g2 ?_
  obtain ⟨v3, e_v3, hm⟩ := lt_e hm
  refine zQ.nmi e_v3 ?_
  refine zQ.s (fun h => zs_istore_n (i := 2) o dX3_result_9 rfl (by decide) (Or.inr (zc2_ref rfl)) (by simp only [List.set_cons_succ, List.set_cons_zero]; rfl)) ?_
  refine zQ.s (fun h => zs_aload_n (i := 0) o dX3_result_10 rfl rfl) ?_
  refine zm_getR o fl_X3_62_3 rfl dX3_result_11 ?_
  refine zQ.s (fun h => zs_aload_n (i := 1) o dX3_result_14 rfl rfl) ?_
  refine zQ.s (fun h => zs_bipush (v := 8) o dX3_result_15 (by decide)) ?_
  obtain ⟨g4, hm⟩ := gd_e hm
  refine zm_rald o h_a1 dX3_result_17 g4 ?_
  obtain ⟨g5, hm⟩ := gd_e hm
  refine zm_iald o rfl dX3_result_18 g5 ?_
  obtain ⟨v6, e_v6, hm⟩ := lt_e hm
  refine zQ.nmi e_v6 ?_
  refine zQ.s (fun h => zs_istore_n (i := 3) o dX3_result_19 rfl (by decide) (Or.inr rfl) (by simp only [List.set_cons_succ, List.set_cons_zero]; rfl)) ?_
  refine zQ.s (fun h => zs_aload_n (i := 0) o dX3_result_20 rfl rfl) ?_
  refine zQ.s (fun h => zs_aload_n (i := 1) o dX3_result_21 rfl rfl) ?_
  obtain ⟨y7, c_y7, hm⟩ := bd_e hm
  refine zm_Vi o ml_X3_201 (M_codeOf G p g _ _ _ _ h_a1 _ _ c_y7) dX3_result_22 rfl rfl rfl rfl (by omega) (by omega) ?_
  by_cases c1 : y7.2 = (1 : Int32)
  · have hm := if_e1 hm c1
    refine zQ.s (fun h => zs_table (off := 47) (tgt := 72) o dX3_result_25 rfl (by decide) (ts_at c1 (by decide)) (by decide)) ?_
    refine zQ.s (fun h => zs_aload_n (i := 0) o dX3_result_72 rfl rfl) ?_
    refine zm_getR o fl_X3_22_3 rfl dX3_result_73 ?_
    refine zQ.s (fun h => zs_aload_n (i := 1) o dX3_result_76 rfl rfl) ?_
    refine zQ.s (fun h => zs_iconst (v := 0) o dX3_result_77 (by decide)) ?_
    obtain ⟨g8, hm⟩ := gd_e hm
    refine zm_rald o h_a1 dX3_result_78 g8 ?_
    obtain ⟨g9, hm⟩ := gd_e hm
    refine zm_iald o rfl dX3_result_79 g9 ?_
    refine zm_reti o f dX3_result_80 rfl (by omega) (by omega) ((so_e hm).trans hR9.symm)
  have hm := if_e2 hm c1
  by_cases c2 : y7.2 = (2 : Int32)
  · have hm := if_e1 hm c2
    refine zQ.s (fun h => zs_table (off := 56) (tgt := 81) o dX3_result_25 rfl (by decide) (ts_at c2 (by decide)) (by decide)) ?_
    refine zQ.s (fun h => zs_iload_n (i := 2) o dX3_result_81 rfl rfl) ?_
    refine zQ.s (fun h => zs_iload_n (i := 3) o dX3_result_82 rfl rfl) ?_
    refine zQ.s (fun h => zs_iadd o dX3_result_83) ?_
    refine zm_reti o f dX3_result_84 rfl (by omega) (by omega) ((so_e hm).trans hR9.symm)
  have hm := if_e2 hm c2
  by_cases c3 : y7.2 = (3 : Int32)
  · have hm := if_e1 hm c3
    refine zQ.s (fun h => zs_table (off := 60) (tgt := 85) o dX3_result_25 rfl (by decide) (ts_at c3 (by decide)) (by decide)) ?_
    refine zQ.s (fun h => zs_iload_n (i := 2) o dX3_result_85 rfl rfl) ?_
    refine zQ.s (fun h => zs_iload_n (i := 3) o dX3_result_86 rfl rfl) ?_
    refine zQ.s (fun h => zs_isub o dX3_result_87) ?_
    refine zm_reti o f dX3_result_88 rfl (by omega) (by omega) ((so_e hm).trans hR9.symm)
  have hm := if_e2 hm c3
  by_cases c4 : y7.2 = (4 : Int32)
  · have hm := if_e1 hm c4
    refine zQ.s (fun h => zs_table (off := 64) (tgt := 89) o dX3_result_25 rfl (by decide) (ts_at c4 (by decide)) (by decide)) ?_
    refine zQ.s (fun h => zs_iload_n (i := 2) o dX3_result_89 rfl rfl) ?_
    refine zQ.s (fun h => zs_iload_n (i := 3) o dX3_result_90 rfl rfl) ?_
    refine zQ.s (fun h => zs_imul o dX3_result_91) ?_
    refine zm_reti o f dX3_result_92 rfl (by omega) (by omega) ((so_e hm).trans hR9.symm)
  have hm := if_e2 hm c4
  by_cases c5 : y7.2 = (5 : Int32)
  · have hm := if_e1 hm c5
    refine zQ.s (fun h => zs_table (off := 68) (tgt := 93) o dX3_result_25 rfl (by decide) (ts_at c5 (by decide)) (by decide)) ?_
    refine zQ.s (fun h => zs_iload_n (i := 3) o dX3_result_93 rfl rfl) ?_
    refine zQ.b (fun h => zs_if_ne (tgt := 101) o dX3_result_94 (by decide)) (fun c => ?_) (fun c => ?_)
    · have hm := if_e2 hm c
      refine zQ.s (fun h => zs_iload_n (i := 2) o dX3_result_101 rfl rfl) ?_
      refine zQ.s (fun h => zs_iload_n (i := 3) o dX3_result_102 rfl rfl) ?_
      obtain ⟨g10, hm⟩ := gd_e hm
      refine zQ.s (fun h => zs_idiv o dX3_result_103 (nz_e g10)) ?_
      refine zQ.fg (zl_n (zl_n (zl_n (zl_n zl_0)))) ?_
      exact hj104 _ _ _ _ (by omega) (by omega) hm
    · have hm := if_e1 hm c
      refine zQ.s (fun h => zs_iconst (v := 0) o dX3_result_97 (by decide)) ?_
      refine zQ.s (fun h => zs_goto (tgt := 104) o dX3_result_98 (by decide)) ?_
      refine zQ.fg (zl_n (zl_n (zl_n (zl_n zl_0)))) ?_
      exact hj104 _ _ _ _ (by omega) (by omega) hm
  have hm := if_e2 hm c5
  by_cases c6 : y7.2 = (6 : Int32)
  · have hm := if_e1 hm c6
    refine zQ.s (fun h => zs_table (off := 80) (tgt := 105) o dX3_result_25 rfl (by decide) (ts_at c6 (by decide)) (by decide)) ?_
    refine zQ.s (fun h => zs_iload_n (i := 2) o dX3_result_105 rfl rfl) ?_
    refine zQ.s (fun h => zs_iload_n (i := 3) o dX3_result_106 rfl rfl) ?_
    refine zQ.s (fun h => zs_iand o dX3_result_107) ?_
    refine zm_reti o f dX3_result_108 rfl (by omega) (by omega) ((so_e hm).trans hR9.symm)
  have hm := if_e2 hm c6
  by_cases c7 : y7.2 = (7 : Int32)
  · have hm := if_e1 hm c7
    refine zQ.s (fun h => zs_table (off := 84) (tgt := 109) o dX3_result_25 rfl (by decide) (ts_at c7 (by decide)) (by decide)) ?_
    refine zQ.s (fun h => zs_iload_n (i := 2) o dX3_result_109 rfl rfl) ?_
    refine zQ.s (fun h => zs_iload_n (i := 3) o dX3_result_110 rfl rfl) ?_
    refine zQ.s (fun h => zs_ixor o dX3_result_111) ?_
    refine zm_reti o f dX3_result_112 rfl (by omega) (by omega) ((so_e hm).trans hR9.symm)
  have hm := if_e2 hm c7
  by_cases c8 : y7.2 = (8 : Int32)
  · have hm := if_e1 hm c8
    refine zQ.s (fun h => zs_table (off := 88) (tgt := 113) o dX3_result_25 rfl (by decide) (ts_at c8 (by decide)) (by decide)) ?_
    refine zQ.s (fun h => zs_iload_n (i := 2) o dX3_result_113 rfl rfl) ?_
    refine zQ.s (fun h => zs_iload_n (i := 3) o dX3_result_114 rfl rfl) ?_
    refine zQ.b (fun h => zs_icmp_ge (tgt := 122) o dX3_result_115 (by decide)) (fun c => ?_) (fun c => ?_)
    · have hm := if_e1 hm c
      refine zQ.s (fun h => zs_iconst (v := 0) o dX3_result_122 (by decide)) ?_
      refine zQ.fg (zl_n (zl_n (zl_n (zl_n zl_0)))) ?_
      exact hj123 _ _ _ _ (by omega) (by omega) hm
    · have hm := if_e2 hm c
      refine zQ.s (fun h => zs_iconst (v := 1) o dX3_result_118 (by decide)) ?_
      refine zQ.s (fun h => zs_goto (tgt := 123) o dX3_result_119 (by decide)) ?_
      refine zQ.fg (zl_n (zl_n (zl_n (zl_n zl_0)))) ?_
      exact hj123 _ _ _ _ (by omega) (by omega) hm
  have hm := if_e2 hm c8
  refine zQ.s (fun h => zs_table (off := 99) (tgt := 124) o dX3_result_25 rfl (by decide) (tsw_c (ts_ne (v := 1) (by decide) c1) (tsw_c (ts_ne (v := 2) (by decide) c2) (tsw_c (ts_ne (v := 3) (by decide) c3) (tsw_c (ts_ne (v := 4) (by decide) c4) (tsw_c (ts_ne (v := 5) (by decide) c5) (tsw_c (ts_ne (v := 6) (by decide) c6) (tsw_c (ts_ne (v := 7) (by decide) c7) (tsw_c (ts_ne (v := 8) (by decide) c8) (tsw_z))))))))) (by decide)) ?_
  refine zQ.s (fun h => zs_aload_n (i := 1) o dX3_result_124 rfl rfl) ?_
  refine zQ.s (fun h => zs_bipush (v := 13) o dX3_result_125 (by decide)) ?_
  obtain ⟨g11, hm⟩ := gd_e hm
  refine zm_rald o h_a1 dX3_result_127 g11 ?_
  refine zQ.b (fun h => zs_if_le (tgt := 135) o dX3_result_128 (by decide)) (fun c => ?_) (fun c => ?_)
  · have hm := if_e1 hm c
    refine zQ.s (fun h => zs_aload_n (i := 1) o dX3_result_135 rfl rfl) ?_
    refine zQ.s (fun h => zs_bipush (v := 16) o dX3_result_136 (by decide)) ?_
    obtain ⟨g12, hm⟩ := gd_e hm
    refine zm_rald o h_a1 dX3_result_138 g12 ?_
    refine zQ.s (fun h => zs_iconst (v := -1) o dX3_result_139 (by decide)) ?_
    refine zQ.b (fun h => zs_icmp_eq (tgt := 150) o dX3_result_140 (by decide)) (fun c => ?_) (fun c => ?_)
    · have hm := if_e1 hm c
      refine zQ.s (fun h => zs_aload_n (i := 0) o dX3_result_150 rfl rfl) ?_
      refine zm_getR o fl_X3_53_3 rfl dX3_result_151 ?_
      refine zQ.s (fun h => zs_aload_n (i := 1) o dX3_result_154 rfl rfl) ?_
      refine zQ.s (fun h => zs_bipush (v := 14) o dX3_result_155 (by decide)) ?_
      obtain ⟨g13, hm⟩ := gd_e hm
      refine zm_rald o h_a1 dX3_result_157 g13 ?_
      obtain ⟨g14, hm⟩ := gd_e hm
      refine zm_iald o rfl dX3_result_158 g14 ?_
      refine zQ.fg (zl_n (zl_n (zl_n (zl_n zl_0)))) ?_
      exact hj159 _ _ _ _ (by omega) (by omega) hm
    · have hm := if_e2 hm c
      refine zQ.s (fun h => zs_aload_n (i := 1) o dX3_result_143 rfl rfl) ?_
      refine zQ.s (fun h => zs_bipush (v := 15) o dX3_result_144 (by decide)) ?_
      obtain ⟨g15, hm⟩ := gd_e hm
      refine zm_rald o h_a1 dX3_result_146 g15 ?_
      refine zQ.s (fun h => zs_goto (tgt := 159) o dX3_result_147 (by decide)) ?_
      refine zQ.fg (zl_n (zl_n (zl_n (zl_n zl_0)))) ?_
      exact hj159 _ _ _ _ (by omega) (by omega) hm
  · have hm := if_e2 hm c
    refine zQ.s (fun h => zs_iconst (v := 0) o dX3_result_131 (by decide)) ?_
    refine zQ.s (fun h => zs_goto (tgt := 159) o dX3_result_132 (by decide)) ?_
    refine zQ.fg (zl_n (zl_n (zl_n (zl_n zl_0)))) ?_
    exact hj159 _ _ _ _ (by omega) (by omega) hm

def m_finds_j121 (S : MS) : Option MS :=
  some S
def m_finds_j120 (S : MS) (s2 : Int32) (s1 : Int32) (s0 : Nat) : Option MS :=
  gd (inb s1 28) <|
  lt (tB S s0 (ix s1) s2) fun S2 =>
  m_finds_j121 S2
def m_finds_j97 (S : MS) (x1 : Nat) (x3 : Int32) : Option MS :=
  gd (inb (6 : Int32) 28) <|
  lt (tB S x1 (ix (6 : Int32)) x3) fun S2 =>
  bd (m_in x3 (0 : Int32) (63 : Int32)) fun y3 =>
  if y3 = (0 : Int32) then
    m_finds_j120 S2 (3 : Int32) (13 : Int32) x1
  else
    m_finds_j120 S2 (0 : Int32) (13 : Int32) x1
def m_finds_j84 (S : MS) (x1 : Nat) (x2 : Int32) (x3 : Int32) (s2 : Int32) (s1 : Int32) (s0 : Nat) : Option MS :=
  gd (inb s1 28) <|
  lt (tB S s0 (ix s1) s2) fun S2 =>
  if x2 = (16 : Int32) then
    m_finds_j97 S2 x1 x3
  else
    if x2 = (17 : Int32) then
      m_finds_j97 S2 x1 x3
    else
      m_finds_j121 S2
def m_finds_j58 (S : MS) (x1 : Nat) (x2 : Int32) (x3 : Int32) (s0 : Int32) : Option MS :=
  if s0 = (0 : Int32) then
    gd (inb (0 : Int32) 28) <|
    m_finds_j84 S x1 x2 x3 ((mB S x1 (ix (0 : Int32))) + (1 : Int32)) (6 : Int32) x1
  else
    gd (inb (0 : Int32) 28) <|
    gd (inb (mB S x1 (ix (0 : Int32))) 64) <|
    m_finds_j84 S x1 x2 x3 (mA S 4 (ix (mB S x1 (ix (0 : Int32))))) (6 : Int32) x1
def m_finds_j57 (S : MS) (x1 : Nat) (x2 : Int32) (x3 : Int32) : Option MS :=
  m_finds_j58 S x1 x2 x3 (0 : Int32)
def m_finds (S : MS) (a1 : Nat) (a2 : Int32) : Option MS :=
  gd (inb (7 : Int32) 28) <|
  gd (inb (mB S a1 (ix (7 : Int32))) 24) <|
  lt (mA S 18 (ix (mB S a1 (ix (7 : Int32))))) fun v3 =>
  gd (inb (8 : Int32) 28) <|
  gd (inb (mB S a1 (ix (8 : Int32))) 24) <|
  lt (mA S 18 (ix (mB S a1 (ix (8 : Int32))))) fun v6 =>
  if a2 = (12 : Int32) then
    if v3 = v6 then
      m_finds_j58 S a1 a2 v3 (1 : Int32)
    else
      m_finds_j58 S a1 a2 v3 (0 : Int32)
  else
    if a2 = (13 : Int32) then
      if v6 ≤ v3 then
        m_finds_j57 S a1 a2 v3
      else
        m_finds_j58 S a1 a2 v3 (1 : Int32)
    else
      m_finds_j57 S a1 a2 v3

set_option maxHeartbeats 40000000 in
theorem M_finds (G : zG) (p : Nat) (g : MG) (q n : Nat) (S : MS) (a1 : Nat) (a2 : Int32) (h_a1 : a1 < 16) (S9 : MS) (hm : m_finds S a1 a2 = some S9) : zMv G yX3_finds cX3_finds 6 none 1 0 0 p g q n [zrf (g.2.1 a1), .int a2] S S9 := by
  intro h0 h hI0
  refine zCo.st [some (zrf p), some (zrf (g.2.1 a1)), some (.int a2), none, none, none] rfl rfl (by simp only [zarg_r, zarg_i, zarg_l, zarg_0]; rfl) (fun X o f0 hin hw0 => ?_)
  have f := f0.e
  refine (?_ : zQ (IM h0 p g q n S) G X 0 0 0 [some (zrf p), some (zrf (g.2.1 a1)), some (.int a2), none, none, none] []) h hI0 hw0
  clear hI0 hw0
  generalize hR9 : (S9 : MS) = R at hm
  have hj121 : ∀ (S : MS) (cl sl : Nat), cl + (0) ≤ 0 → sl + (0) ≤ 0 → m_finds_j121 S = some R → zQ (IM h0 p g q n S) G X cl sl 121 [none, none, none, none, none, none] [] := by
    intro S cl sl hc hs hm
    unfold m_finds_j121 at hm
    refine zm_retv o f dX3_finds_121 (by omega) (by omega) ((so_e hm).trans hR9.symm)
  have hj120 : ∀ (S : MS) (s2 : Int32) (s1 : Int32) (s0 : Nat) (cl sl : Nat), cl + (0) ≤ 0 → sl + (0) ≤ 0 → s0 < 16 → m_finds_j120 S s2 s1 s0 = some R → zQ (IM h0 p g q n S) G X cl sl 120 [none, none, none, none, none, none] [.int s2, .int s1, zrf (g.2.1 s0)] := by
    intro S s2 s1 s0 cl sl hc hs h_s0 hm
    unfold m_finds_j120 at hm
    obtain ⟨g1, hm⟩ := gd_e hm
    obtain ⟨S2, e_S2, hm⟩ := lt_e hm
    refine zm_rast o h_s0 dX3_finds_120 g1 e_S2 ?_
    exact hj121 _ _ _ (by omega) (by omega) hm
  have hj97 : ∀ (S : MS) (x1 : Nat) (x3 : Int32) (cl sl : Nat), cl + (0) ≤ 0 → sl + (0) ≤ 0 → x1 < 16 → m_finds_j97 S x1 x3 = some R → zQ (IM h0 p g q n S) G X cl sl 97 [none, some (zrf (g.2.1 x1)), none, some (.int x3), none, none] [] := by
    intro S x1 x3 cl sl hc hs h_x1 hm
    unfold m_finds_j97 at hm
    refine zQ.s (fun h => zs_aload_n (i := 1) o dX3_finds_97 rfl rfl) ?_
    refine zQ.s (fun h => zs_bipush (v := 6) o dX3_finds_98 (by decide)) ?_
    refine zQ.s (fun h => zs_iload_n (i := 3) o dX3_finds_100 rfl rfl) ?_
    obtain ⟨g1, hm⟩ := gd_e hm
    obtain ⟨S2, e_S2, hm⟩ := lt_e hm
    refine zm_rast o h_x1 dX3_finds_101 g1 e_S2 ?_
    refine zQ.s (fun h => zs_aload_n (i := 1) o dX3_finds_102 rfl rfl) ?_
    refine zQ.s (fun h => zs_bipush (v := 13) o dX3_finds_103 (by decide)) ?_
    refine zQ.s (fun h => zs_iload_n (i := 3) o dX3_finds_105 rfl rfl) ?_
    refine zQ.s (fun h => zs_iconst (v := 0) o dX3_finds_106 (by decide)) ?_
    refine zQ.s (fun h => zs_bipush (v := 63) o dX3_finds_107 (by decide)) ?_
    obtain ⟨y3, c_y3, hm⟩ := bd_e hm
    refine zQ_Si o ml_X3_129 (M_in G _ _ _ _ c_y3) dX3_finds_109 rfl rfl rfl rfl (by omega) (by omega) ?_
    refine zQ.b (fun h => zs_if_eq (tgt := 119) o dX3_finds_112 (by decide)) (fun c => ?_) (fun c => ?_)
    · have hm := if_e1 hm c
      refine zQ.s (fun h => zs_iconst (v := 3) o dX3_finds_119 (by decide)) ?_
      refine zQ.fg (zl_n (zl_n (zl_n (zl_n (zl_n (zl_n zl_0)))))) ?_
      exact hj120 _ _ _ _ _ _ (by omega) (by omega) h_x1 hm
    · have hm := if_e2 hm c
      refine zQ.s (fun h => zs_iconst (v := 0) o dX3_finds_115 (by decide)) ?_
      refine zQ.s (fun h => zs_goto (tgt := 120) o dX3_finds_116 (by decide)) ?_
      refine zQ.fg (zl_n (zl_n (zl_n (zl_n (zl_n (zl_n zl_0)))))) ?_
      exact hj120 _ _ _ _ _ _ (by omega) (by omega) h_x1 hm
  have hj84 : ∀ (S : MS) (x1 : Nat) (x2 : Int32) (x3 : Int32) (s2 : Int32) (s1 : Int32) (s0 : Nat) (cl sl : Nat), cl + (0) ≤ 0 → sl + (0) ≤ 0 → x1 < 16 → s0 < 16 → m_finds_j84 S x1 x2 x3 s2 s1 s0 = some R → zQ (IM h0 p g q n S) G X cl sl 84 [none, some (zrf (g.2.1 x1)), some (.int x2), some (.int x3), none, none] [.int s2, .int s1, zrf (g.2.1 s0)] := by
    intro S x1 x2 x3 s2 s1 s0 cl sl hc hs h_x1 h_s0 hm
    unfold m_finds_j84 at hm
    obtain ⟨g1, hm⟩ := gd_e hm
    obtain ⟨S2, e_S2, hm⟩ := lt_e hm
    refine zm_rast o h_s0 dX3_finds_84 g1 e_S2 ?_
    refine zQ.s (fun h => zs_iload_n (i := 2) o dX3_finds_85 rfl rfl) ?_
    refine zQ.s (fun h => zs_bipush (v := 16) o dX3_finds_86 (by decide)) ?_
    refine zQ.b (fun h => zs_icmp_eq (tgt := 97) o dX3_finds_88 (by decide)) (fun c => ?_) (fun c => ?_)
    · have hm := if_e1 hm c
      refine zQ.fg (zl_n (zl_s (zl_n (zl_s (zl_n (zl_n zl_0)))))) ?_
      exact hj97 _ _ _ _ _ (by omega) (by omega) h_x1 hm
    · have hm := if_e2 hm c
      refine zQ.s (fun h => zs_iload_n (i := 2) o dX3_finds_91 rfl rfl) ?_
      refine zQ.s (fun h => zs_bipush (v := 17) o dX3_finds_92 (by decide)) ?_
      refine zQ.b (fun h => zs_icmp_ne (tgt := 121) o dX3_finds_94 (by decide)) (fun c => ?_) (fun c => ?_)
      · have hm := if_e2 hm c
        refine zQ.fg (zl_n (zl_n (zl_n (zl_n (zl_n (zl_n zl_0)))))) ?_
        exact hj121 _ _ _ (by omega) (by omega) hm
      · have hm := if_e1 hm c
        refine zQ.fg (zl_n (zl_s (zl_n (zl_s (zl_n (zl_n zl_0)))))) ?_
        exact hj97 _ _ _ _ _ (by omega) (by omega) h_x1 hm
  have hj58 : ∀ (S : MS) (x1 : Nat) (x2 : Int32) (x3 : Int32) (s0 : Int32) (cl sl : Nat), cl + (0) ≤ 0 → sl + (0) ≤ 0 → x1 < 16 → m_finds_j58 S x1 x2 x3 s0 = some R → zQ (IM h0 p g q n S) G X cl sl 58 [some (zrf p), some (zrf (g.2.1 x1)), some (.int x2), some (.int x3), none, none] [.int s0] := by
    intro S x1 x2 x3 s0 cl sl hc hs h_x1 hm
    unfold m_finds_j58 at hm
    refine zQ.s (fun h => zs_istore (i := 5) o dX3_finds_58 (by decide) (Or.inr rfl) (by simp only [List.set_cons_succ, List.set_cons_zero]; rfl)) ?_
    refine zQ.s (fun h => zs_aload_n (i := 1) o dX3_finds_60 rfl rfl) ?_
    refine zQ.s (fun h => zs_bipush (v := 6) o dX3_finds_61 (by decide)) ?_
    refine zQ.s (fun h => zs_iload (i := 5) o dX3_finds_63 rfl) ?_
    refine zQ.b (fun h => zs_if_eq (tgt := 79) o dX3_finds_65 (by decide)) (fun c => ?_) (fun c => ?_)
    · have hm := if_e1 hm c
      refine zQ.s (fun h => zs_aload_n (i := 1) o dX3_finds_79 rfl rfl) ?_
      refine zQ.s (fun h => zs_iconst (v := 0) o dX3_finds_80 (by decide)) ?_
      obtain ⟨g1, hm⟩ := gd_e hm
      refine zm_rald o h_x1 dX3_finds_81 g1 ?_
      refine zQ.s (fun h => zs_iconst (v := 1) o dX3_finds_82 (by decide)) ?_
      refine zQ.s (fun h => zs_iadd o dX3_finds_83) ?_
      refine zQ.fg (zl_n (zl_s (zl_s (zl_s (zl_n (zl_n zl_0)))))) ?_
      exact hj84 _ _ _ _ _ _ _ _ _ (by omega) (by omega) h_x1 h_x1 hm
    · have hm := if_e2 hm c
      refine zQ.s (fun h => zs_aload_n (i := 0) o dX3_finds_68 rfl rfl) ?_
      refine zm_getR o fl_X3_22_3 rfl dX3_finds_69 ?_
      refine zQ.s (fun h => zs_aload_n (i := 1) o dX3_finds_72 rfl rfl) ?_
      refine zQ.s (fun h => zs_iconst (v := 0) o dX3_finds_73 (by decide)) ?_
      obtain ⟨g2, hm⟩ := gd_e hm
      refine zm_rald o h_x1 dX3_finds_74 g2 ?_
      obtain ⟨g3, hm⟩ := gd_e hm
      refine zm_iald o rfl dX3_finds_75 g3 ?_
      refine zQ.s (fun h => zs_goto (tgt := 84) o dX3_finds_76 (by decide)) ?_
      refine zQ.fg (zl_n (zl_s (zl_s (zl_s (zl_n (zl_n zl_0)))))) ?_
      exact hj84 _ _ _ _ _ _ _ _ _ (by omega) (by omega) h_x1 h_x1 hm
  have hj57 : ∀ (S : MS) (x1 : Nat) (x2 : Int32) (x3 : Int32) (cl sl : Nat), cl + (0) ≤ 0 → sl + (0) ≤ 0 → x1 < 16 → m_finds_j57 S x1 x2 x3 = some R → zQ (IM h0 p g q n S) G X cl sl 57 [some (zrf p), some (zrf (g.2.1 x1)), some (.int x2), some (.int x3), none, none] [] := by
    intro S x1 x2 x3 cl sl hc hs h_x1 hm
    unfold m_finds_j57 at hm
    refine zQ.s (fun h => zs_iconst (v := 0) o dX3_finds_57 (by decide)) ?_
    exact hj58 _ _ _ _ _ _ _ (by omega) (by omega) h_x1 hm
  unfold m_finds at hm
  refine zQ.s (fun h => zs_aload_n (i := 0) o dX3_finds_0 rfl rfl) ?_
  refine zm_getR o fl_X3_62_3 rfl dX3_finds_1 ?_
  refine zQ.s (fun h => zs_aload_n (i := 1) o dX3_finds_4 rfl rfl) ?_
  refine zQ.s (fun h => zs_bipush (v := 7) o dX3_finds_5 (by decide)) ?_
  obtain ⟨g1, hm⟩ := gd_e hm
  refine zm_rald o h_a1 dX3_finds_7 g1 ?_
  obtain ⟨g2, hm⟩ := gd_e hm
  refine zm_iald o rfl dX3_finds_8 g2 ?_
  obtain ⟨v3, e_v3, hm⟩ := lt_e hm
  refine zQ.nmi e_v3 ?_
  refine zQ.s (fun h => zs_istore_n (i := 3) o dX3_finds_9 rfl (by decide) (Or.inr rfl) (by simp only [List.set_cons_succ, List.set_cons_zero]; rfl)) ?_
  refine zQ.s (fun h => zs_aload_n (i := 0) o dX3_finds_10 rfl rfl) ?_
  refine zm_getR o fl_X3_62_3 rfl dX3_finds_11 ?_
  refine zQ.s (fun h => zs_aload_n (i := 1) o dX3_finds_14 rfl rfl) ?_
  refine zQ.s (fun h => zs_bipush (v := 8) o dX3_finds_15 (by decide)) ?_
  obtain ⟨g4, hm⟩ := gd_e hm
  refine zm_rald o h_a1 dX3_finds_17 g4 ?_
  obtain ⟨g5, hm⟩ := gd_e hm
  refine zm_iald o rfl dX3_finds_18 g5 ?_
  obtain ⟨v6, e_v6, hm⟩ := lt_e hm
  refine zQ.nmi e_v6 ?_
  refine zQ.s (fun h => zs_istore (i := 4) o dX3_finds_19 (by decide) (Or.inr rfl) (by simp only [List.set_cons_succ, List.set_cons_zero]; rfl)) ?_
  refine zQ.s (fun h => zs_iload_n (i := 2) o dX3_finds_21 rfl rfl) ?_
  refine zQ.s (fun h => zs_bipush (v := 12) o dX3_finds_22 (by decide)) ?_
  refine zQ.b (fun h => zs_icmp_ne (tgt := 41) o dX3_finds_24 (by decide)) (fun c => ?_) (fun c => ?_)
  · have hm := if_e2 hm c
    refine zQ.s (fun h => zs_iload_n (i := 2) o dX3_finds_41 rfl rfl) ?_
    refine zQ.s (fun h => zs_bipush (v := 13) o dX3_finds_42 (by decide)) ?_
    refine zQ.b (fun h => zs_icmp_ne (tgt := 57) o dX3_finds_44 (by decide)) (fun c => ?_) (fun c => ?_)
    · have hm := if_e2 hm c
      refine zQ.fg (zl_s (zl_s (zl_s (zl_s (zl_n (zl_n zl_0)))))) ?_
      exact hj57 _ _ _ _ _ _ (by omega) (by omega) h_a1 hm
    · have hm := if_e1 hm c
      refine zQ.s (fun h => zs_iload_n (i := 3) o dX3_finds_47 rfl rfl) ?_
      refine zQ.s (fun h => zs_iload (i := 4) o dX3_finds_48 rfl) ?_
      refine zQ.b (fun h => zs_icmp_ge (tgt := 57) o dX3_finds_50 (by decide)) (fun c => ?_) (fun c => ?_)
      · have hm := if_e1 hm c
        refine zQ.fg (zl_s (zl_s (zl_s (zl_s (zl_n (zl_n zl_0)))))) ?_
        exact hj57 _ _ _ _ _ _ (by omega) (by omega) h_a1 hm
      · have hm := if_e2 hm c
        refine zQ.s (fun h => zs_iconst (v := 1) o dX3_finds_53 (by decide)) ?_
        refine zQ.s (fun h => zs_goto (tgt := 58) o dX3_finds_54 (by decide)) ?_
        refine zQ.fg (zl_s (zl_s (zl_s (zl_s (zl_n (zl_n zl_0)))))) ?_
        exact hj58 _ _ _ _ _ _ _ (by omega) (by omega) h_a1 hm
  · have hm := if_e1 hm c
    refine zQ.s (fun h => zs_iload_n (i := 3) o dX3_finds_27 rfl rfl) ?_
    refine zQ.s (fun h => zs_iload (i := 4) o dX3_finds_28 rfl) ?_
    refine zQ.b (fun h => zs_icmp_ne (tgt := 37) o dX3_finds_30 (by decide)) (fun c => ?_) (fun c => ?_)
    · have hm := if_e2 hm c
      refine zQ.s (fun h => zs_iconst (v := 0) o dX3_finds_37 (by decide)) ?_
      refine zQ.s (fun h => zs_goto (tgt := 58) o dX3_finds_38 (by decide)) ?_
      refine zQ.fg (zl_s (zl_s (zl_s (zl_s (zl_n (zl_n zl_0)))))) ?_
      exact hj58 _ _ _ _ _ _ _ (by omega) (by omega) h_a1 hm
    · have hm := if_e1 hm c
      refine zQ.s (fun h => zs_iconst (v := 1) o dX3_finds_33 (by decide)) ?_
      refine zQ.s (fun h => zs_goto (tgt := 58) o dX3_finds_34 (by decide)) ?_
      refine zQ.fg (zl_s (zl_s (zl_s (zl_s (zl_n (zl_n zl_0)))))) ?_
      exact hj58 _ _ _ _ _ _ _ (by omega) (by omega) h_a1 hm

def m_wrongLoad_j101 (k11 : MS → Nat → Int32 → Option (MS × Int32)) (S : MS) (x2 : Nat) (x3 : Int32) : Option (MS × Int32) :=
  k11 S x2 (x3 + (1 : Int32))
def m_wrongLoad_j80 (k11 : MS → Nat → Int32 → Option (MS × Int32)) (S : MS) (x2 : Nat) (x3 : Int32) (x4 : Nat) (s0 : Int32) : Option (MS × Int32) :=
  if s0 = (0 : Int32) then
    m_wrongLoad_j101 k11 S x2 x3
  else
    gd (inb (16 : Int32) 28) <|
    gd (inb (17 : Int32) 28) <|
    if (mB S x2 (ix (17 : Int32))) < (mB S x4 (ix (16 : Int32))) then
      m_wrongLoad_j101 k11 S x2 x3
    else
      some (S, x3)
def m_wrongLoad_j79 (k11 : MS → Nat → Int32 → Option (MS × Int32)) (S : MS) (x2 : Nat) (x3 : Int32) (x4 : Nat) : Option (MS × Int32) :=
  m_wrongLoad_j80 k11 S x2 x3 x4 (0 : Int32)
def m_wrongLoad_j107 (S : MS) : Option (MS × Int32) :=
  some (S, (-1 : Int32))
def m_wrongLoad_b11 (k11 : MS → Nat → Int32 → Option (MS × Int32)) (S : MS) (x2 : Nat) (x3 : Int32) : Option (MS × Int32) :=
  if (mS S 23) ≤ x3 then
    m_wrongLoad_j107 S
  else
    gd (inb (13 : Int32) 28) <|
    if (mB S x2 (ix (13 : Int32))) = (0 : Int32) then
      gd (inb x3 16) <|
      lt (mM S (ix x3)) fun r3 =>
      bd (m_codeOf S r3) fun y4 =>
      if y4.2 = (9 : Int32) then
        gd (inb (11 : Int32) 28) <|
        if (mB y4.1 r3 (ix (11 : Int32))) = (113 : Int32) then
          m_wrongLoad_j79 k11 y4.1 x2 x3 r3
        else
          gd (inb (13 : Int32) 28) <|
          if (mB y4.1 r3 (ix (13 : Int32))) = (0 : Int32) then
            gd (inb (14 : Int32) 28) <|
            gd (inb (14 : Int32) 28) <|
            if (mB y4.1 r3 (ix (14 : Int32))) = (mB y4.1 x2 (ix (14 : Int32))) then
              m_wrongLoad_j80 k11 y4.1 x2 x3 r3 (1 : Int32)
            else
              m_wrongLoad_j79 k11 y4.1 x2 x3 r3
          else
            m_wrongLoad_j79 k11 y4.1 x2 x3 r3
      else
        m_wrongLoad_j79 k11 y4.1 x2 x3 r3
    else
      m_wrongLoad_j107 S
def m_wrongLoad_l11 : Nat → MS → Nat → Int32 → Option (MS × Int32)
  | 0 => fun _ _ _ => none
  | n + 1 => m_wrongLoad_b11 (m_wrongLoad_l11 n)
def m_wrongLoad (S : MS) (a1 : Int32) : Option (MS × Int32) :=
  gd (inb a1 16) <|
  lt (mM S (ix a1)) fun r2 =>
  lt (a1 + (1 : Int32)) fun v3 =>
  m_wrongLoad_l11 100 S r2 v3

set_option maxHeartbeats 40000000 in
theorem M_wrongLoad (G : zG) (p : Nat) (g : MG) (q n : Nat) (S : MS) (a1 : Int32) (V : Int32) (S9 : MS) (hm : m_wrongLoad S a1 = some (S9, V)) : zMi G yX3_wrongLoad cX3_wrongLoad 6 (some .int) 1 0 0 p g q n [.int a1] S V S9 := by
  intro h0 h hI0
  refine zCo.st [some (zrf p), some (.int a1), none, none, none, none] rfl rfl (by simp only [zarg_r, zarg_i, zarg_l, zarg_0]; rfl) (fun X o f0 hin hw0 => ?_)
  have f := f0.e
  refine (?_ : zQ (IM h0 p g q n S) G X 0 0 0 [some (zrf p), some (.int a1), none, none, none, none] []) h hI0 hw0
  clear hI0 hw0
  generalize hR9 : ((S9, V) : (MS × Int32)) = R at hm
  have hj107 : ∀ (S : MS) (cl sl : Nat), cl + (0) ≤ 0 → sl + (0) ≤ 0 → m_wrongLoad_j107 S = some R → zQ (IM h0 p g q n S) G X cl sl 107 [none, none, none, none, none, none] [] := by
    intro S cl sl hc hs hm
    unfold m_wrongLoad_j107 at hm
    refine zQ.s (fun h => zs_iconst (v := -1) o dX3_wrongLoad_107 (by decide)) ?_
    refine zm_reti o f dX3_wrongLoad_108 rfl (by omega) (by omega) ((so_e hm).trans hR9.symm)
  have hl11 : ∀ (n11 : Nat), n11 ≤ 100 → ∀ (S : MS) (x2 : Nat) (x3 : Int32) (cl sl : Nat), cl + (0) ≤ 0 → sl + (0) ≤ 0 → x2 < 16 → m_wrongLoad_l11 n11 S x2 x3 = some R → zQ (IM h0 p g q n S) G X cl sl 11 [some (zrf p), none, some (zrf (g.2.1 x2)), some (.int x3), none, none] [] := by
    intro n11
    induction n11 with
    | zero => intro _ S x2 x3 cl sl _ _ h_x2 hm; exact no_e hm
    | succ n11 ih =>
      intro hf11
      have ih11 := ih (by omega)
      have hj101 : ∀ (S : MS) (x2 : Nat) (x3 : Int32) (cl sl : Nat), cl + (0) ≤ 0 → sl + (0) ≤ 0 → x2 < 16 → m_wrongLoad_j101 (m_wrongLoad_l11 n11) S x2 x3 = some R → zQ (IM h0 p g q n S) G X cl sl 101 [some (zrf p), none, some (zrf (g.2.1 x2)), some (.int x3), none, none] [] := by
        intro S x2 x3 cl sl hc hs h_x2 hm
        unfold m_wrongLoad_j101 at hm
        refine zQ.s (fun h => zs_iinc (i := 3) (v := x3 + (1 : Int32)) o dX3_wrongLoad_101 rfl rfl (by decide) (Or.inr (zc2_ref rfl)) (by simp only [List.set_cons_succ, List.set_cons_zero]; rfl)) ?_
        refine zQ.s (fun h => zs_goto (tgt := 11) o dX3_wrongLoad_104 (by decide)) ?_
        exact ih11 _ _ _ _ _ (by omega) (by omega) h_x2 hm
      have hj80 : ∀ (S : MS) (x2 : Nat) (x3 : Int32) (x4 : Nat) (s0 : Int32) (cl sl : Nat), cl + (0) ≤ 0 → sl + (0) ≤ 0 → x2 < 16 → x4 < 16 → m_wrongLoad_j80 (m_wrongLoad_l11 n11) S x2 x3 x4 s0 = some R → zQ (IM h0 p g q n S) G X cl sl 80 [some (zrf p), none, some (zrf (g.2.1 x2)), some (.int x3), some (zrf (g.2.1 x4)), none] [.int s0] := by
        intro S x2 x3 x4 s0 cl sl hc hs h_x2 h_x4 hm
        unfold m_wrongLoad_j80 at hm
        refine zQ.s (fun h => zs_istore (i := 5) o dX3_wrongLoad_80 (by decide) (Or.inr (zc2_ref rfl)) (by simp only [List.set_cons_succ, List.set_cons_zero]; rfl)) ?_
        refine zQ.s (fun h => zs_iload (i := 5) o dX3_wrongLoad_82 rfl) ?_
        refine zQ.b (fun h => zs_if_eq (tgt := 101) o dX3_wrongLoad_84 (by decide)) (fun c => ?_) (fun c => ?_)
        · have hm := if_e1 hm c
          refine zQ.fg (zl_s (zl_n (zl_s (zl_s (zl_n (zl_n zl_0)))))) ?_
          exact hj101 _ _ _ _ _ (by omega) (by omega) h_x2 hm
        · have hm := if_e2 hm c
          refine zQ.s (fun h => zs_aload (i := 4) o dX3_wrongLoad_87 rfl) ?_
          refine zQ.s (fun h => zs_bipush (v := 16) o dX3_wrongLoad_89 (by decide)) ?_
          obtain ⟨g1, hm⟩ := gd_e hm
          refine zm_rald o h_x4 dX3_wrongLoad_91 g1 ?_
          refine zQ.s (fun h => zs_aload_n (i := 2) o dX3_wrongLoad_92 rfl rfl) ?_
          refine zQ.s (fun h => zs_bipush (v := 17) o dX3_wrongLoad_93 (by decide)) ?_
          obtain ⟨g2, hm⟩ := gd_e hm
          refine zm_rald o h_x2 dX3_wrongLoad_95 g2 ?_
          refine zQ.b (fun h => zs_icmp_gt (tgt := 101) o dX3_wrongLoad_96 (by decide)) (fun c => ?_) (fun c => ?_)
          · have hm := if_e1 hm c
            refine zQ.fg (zl_s (zl_n (zl_s (zl_s (zl_n (zl_n zl_0)))))) ?_
            exact hj101 _ _ _ _ _ (by omega) (by omega) h_x2 hm
          · have hm := if_e2 hm c
            refine zQ.s (fun h => zs_iload_n (i := 3) o dX3_wrongLoad_99 rfl rfl) ?_
            refine zm_reti o f dX3_wrongLoad_100 rfl (by omega) (by omega) ((so_e hm).trans hR9.symm)
      have hj79 : ∀ (S : MS) (x2 : Nat) (x3 : Int32) (x4 : Nat) (cl sl : Nat), cl + (0) ≤ 0 → sl + (0) ≤ 0 → x2 < 16 → x4 < 16 → m_wrongLoad_j79 (m_wrongLoad_l11 n11) S x2 x3 x4 = some R → zQ (IM h0 p g q n S) G X cl sl 79 [some (zrf p), none, some (zrf (g.2.1 x2)), some (.int x3), some (zrf (g.2.1 x4)), none] [] := by
        intro S x2 x3 x4 cl sl hc hs h_x2 h_x4 hm
        unfold m_wrongLoad_j79 at hm
        refine zQ.s (fun h => zs_iconst (v := 0) o dX3_wrongLoad_79 (by decide)) ?_
        exact hj80 _ _ _ _ _ _ _ (by omega) (by omega) h_x2 h_x4 hm
      intro S x2 x3 cl sl hc hs h_x2 hm
      have hm : m_wrongLoad_b11 (m_wrongLoad_l11 n11) S x2 x3 = some R := hm
      unfold m_wrongLoad_b11 at hm
      refine zQ.s (fun h => zs_iload_n (i := 3) o dX3_wrongLoad_11 rfl rfl) ?_
      refine zQ.s (fun h => zs_aload_n (i := 0) o dX3_wrongLoad_12 rfl rfl) ?_
      refine zm_getI o fl_X3_198_3 rfl dX3_wrongLoad_13 ?_
      refine zQ.b (fun h => zs_icmp_ge (tgt := 107) o dX3_wrongLoad_16 (by decide)) (fun c => ?_) (fun c => ?_)
      · have hm := if_e1 hm c
        refine zQ.fg (zl_n (zl_n (zl_n (zl_n (zl_n (zl_n zl_0)))))) ?_
        exact hj107 _ _ _ (by omega) (by omega) hm
      · have hm := if_e2 hm c
        refine zQ.s (fun h => zs_aload_n (i := 2) o dX3_wrongLoad_19 rfl rfl) ?_
        refine zQ.s (fun h => zs_bipush (v := 13) o dX3_wrongLoad_20 (by decide)) ?_
        obtain ⟨g1, hm⟩ := gd_e hm
        refine zm_rald o h_x2 dX3_wrongLoad_22 g1 ?_
        refine zQ.b (fun h => zs_if_ne (tgt := 107) o dX3_wrongLoad_23 (by decide)) (fun c => ?_) (fun c => ?_)
        · have hm := if_e2 hm c
          refine zQ.fg (zl_n (zl_n (zl_n (zl_n (zl_n (zl_n zl_0)))))) ?_
          exact hj107 _ _ _ (by omega) (by omega) hm
        · have hm := if_e1 hm c
          refine zQ.s (fun h => zs_aload_n (i := 0) o dX3_wrongLoad_26 rfl rfl) ?_
          refine zm_getR o fl_X3_74_3 rfl dX3_wrongLoad_27 ?_
          refine zQ.s (fun h => zs_iload_n (i := 3) o dX3_wrongLoad_30 rfl rfl) ?_
          obtain ⟨g2, hm⟩ := gd_e hm
          obtain ⟨r3, e_r3, hm⟩ := lt_e hm
          refine zm_row o dX3_wrongLoad_31 g2 e_r3 (fun h_r3 => ?_)
          refine zQ.s (fun h => zs_astore (i := 4) o dX3_wrongLoad_32 (by decide) (Or.inr rfl) (by simp only [List.set_cons_succ, List.set_cons_zero]; rfl)) ?_
          refine zQ.s (fun h => zs_aload_n (i := 0) o dX3_wrongLoad_34 rfl rfl) ?_
          refine zQ.s (fun h => zs_aload (i := 4) o dX3_wrongLoad_35 rfl) ?_
          obtain ⟨y4, c_y4, hm⟩ := bd_e hm
          refine zm_Vi o ml_X3_201 (M_codeOf G p g _ _ _ _ h_r3 _ _ c_y4) dX3_wrongLoad_37 rfl rfl rfl rfl (by omega) (by omega) ?_
          refine zQ.s (fun h => zs_bipush (v := 9) o dX3_wrongLoad_40 (by decide)) ?_
          refine zQ.b (fun h => zs_icmp_ne (tgt := 79) o dX3_wrongLoad_42 (by decide)) (fun c => ?_) (fun c => ?_)
          · have hm := if_e2 hm c
            exact hj79 _ _ _ _ _ _ (by omega) (by omega) h_x2 h_r3 hm
          · have hm := if_e1 hm c
            refine zQ.s (fun h => zs_aload (i := 4) o dX3_wrongLoad_45 rfl) ?_
            refine zQ.s (fun h => zs_bipush (v := 11) o dX3_wrongLoad_47 (by decide)) ?_
            obtain ⟨g5, hm⟩ := gd_e hm
            refine zm_rald o h_r3 dX3_wrongLoad_49 g5 ?_
            refine zQ.s (fun h => zs_bipush (v := 113) o dX3_wrongLoad_50 (by decide)) ?_
            refine zQ.b (fun h => zs_icmp_eq (tgt := 79) o dX3_wrongLoad_52 (by decide)) (fun c => ?_) (fun c => ?_)
            · have hm := if_e1 hm c
              exact hj79 _ _ _ _ _ _ (by omega) (by omega) h_x2 h_r3 hm
            · have hm := if_e2 hm c
              refine zQ.s (fun h => zs_aload (i := 4) o dX3_wrongLoad_55 rfl) ?_
              refine zQ.s (fun h => zs_bipush (v := 13) o dX3_wrongLoad_57 (by decide)) ?_
              obtain ⟨g6, hm⟩ := gd_e hm
              refine zm_rald o h_r3 dX3_wrongLoad_59 g6 ?_
              refine zQ.b (fun h => zs_if_ne (tgt := 79) o dX3_wrongLoad_60 (by decide)) (fun c => ?_) (fun c => ?_)
              · have hm := if_e2 hm c
                exact hj79 _ _ _ _ _ _ (by omega) (by omega) h_x2 h_r3 hm
              · have hm := if_e1 hm c
                refine zQ.s (fun h => zs_aload (i := 4) o dX3_wrongLoad_63 rfl) ?_
                refine zQ.s (fun h => zs_bipush (v := 14) o dX3_wrongLoad_65 (by decide)) ?_
                obtain ⟨g7, hm⟩ := gd_e hm
                refine zm_rald o h_r3 dX3_wrongLoad_67 g7 ?_
                refine zQ.s (fun h => zs_aload_n (i := 2) o dX3_wrongLoad_68 rfl rfl) ?_
                refine zQ.s (fun h => zs_bipush (v := 14) o dX3_wrongLoad_69 (by decide)) ?_
                obtain ⟨g8, hm⟩ := gd_e hm
                refine zm_rald o h_x2 dX3_wrongLoad_71 g8 ?_
                refine zQ.b (fun h => zs_icmp_ne (tgt := 79) o dX3_wrongLoad_72 (by decide)) (fun c => ?_) (fun c => ?_)
                · have hm := if_e2 hm c
                  exact hj79 _ _ _ _ _ _ (by omega) (by omega) h_x2 h_r3 hm
                · have hm := if_e1 hm c
                  refine zQ.s (fun h => zs_iconst (v := 1) o dX3_wrongLoad_75 (by decide)) ?_
                  refine zQ.s (fun h => zs_goto (tgt := 80) o dX3_wrongLoad_76 (by decide)) ?_
                  exact hj80 _ _ _ _ _ _ _ (by omega) (by omega) h_x2 h_r3 hm
  unfold m_wrongLoad at hm
  refine zQ.s (fun h => zs_aload_n (i := 0) o dX3_wrongLoad_0 rfl rfl) ?_
  refine zm_getR o fl_X3_74_3 rfl dX3_wrongLoad_1 ?_
  refine zQ.s (fun h => zs_iload_n (i := 1) o dX3_wrongLoad_4 rfl rfl) ?_
  obtain ⟨g1, hm⟩ := gd_e hm
  obtain ⟨r2, e_r2, hm⟩ := lt_e hm
  refine zm_row o dX3_wrongLoad_5 g1 e_r2 (fun h_r2 => ?_)
  refine zQ.s (fun h => zs_astore_n (i := 2) o dX3_wrongLoad_6 rfl (by decide) (Or.inr rfl) (by simp only [List.set_cons_succ, List.set_cons_zero]; rfl)) ?_
  refine zQ.s (fun h => zs_iload_n (i := 1) o dX3_wrongLoad_7 rfl rfl) ?_
  refine zQ.s (fun h => zs_iconst (v := 1) o dX3_wrongLoad_8 (by decide)) ?_
  refine zQ.s (fun h => zs_iadd o dX3_wrongLoad_9) ?_
  obtain ⟨v3, e_v3, hm⟩ := lt_e hm
  refine zQ.nmi e_v3 ?_
  refine zQ.s (fun h => zs_istore_n (i := 3) o dX3_wrongLoad_10 rfl (by decide) (Or.inr (zc2_ref rfl)) (by simp only [List.set_cons_succ, List.set_cons_zero]; rfl)) ?_
  refine zQ.fg (zl_s (zl_n (zl_s (zl_s (zl_n (zl_n zl_0)))))) ?_
  exact hl11 100 (Nat.le_refl _) _ _ _ _ _ (by omega) (by omega) h_r2 hm

def m_ends_j48 (S : MS) (x2 : Nat) (s2 : Int32) (s1 : Int32) (s0 : Nat) : Option MS :=
  gd (inb s1 28) <|
  lt (tB S s0 (ix s1) s2) fun S2 =>
  bd (m_result S2 x2) fun y3 =>
  gd (inb (15 : Int32) 28) <|
  lt (tB y3.1 x2 (ix (15 : Int32)) y3.2) fun S5 =>
  gd (inb (11 : Int32) 28) <|
  lt (tB S5 x2 (ix (11 : Int32)) (98 : Int32)) fun S7 =>
  some S7
def m_ends_j44 (S : MS) (x2 : Nat) (s1 : Int32) (s0 : Nat) : Option MS :=
  gd (inb (13 : Int32) 28) <|
  m_ends_j48 S x2 (mB S x2 (ix (13 : Int32))) s1 s0
def m_ends_j195 (S : MS) : Option MS :=
  some S
def m_ends_j121 (S : MS) (x1 : Int32) (x2 : Nat) (x4 : Int32) (s2 : Int32) (s1 : Int32) (s0 : Nat) : Option MS :=
  gd (inb s1 28) <|
  lt (tB S s0 (ix s1) s2) fun S2 =>
  gd (inb (14 : Int32) 28) <|
  lt (tB S2 x2 (ix (14 : Int32)) x4) fun S4 =>
  bd (m_wrongLoad S4 x1) fun y5 =>
  if y5.2 = (-1 : Int32) then
    m_ends_j195 y5.1
  else
    gd (inb y5.2 16) <|
    lt (mM y5.1 (ix y5.2)) fun r7 =>
    lt (tS y5.1 49 ((mS y5.1 49) + (1 : Int32))) fun S8 =>
    gd (inb (0 : Int32) 28) <|
    gd (inb (irm (mB S8 r7 (ix (0 : Int32))) (16 : Int32)) 16) <|
    lt (tA S8 31 (ix (irm (mB S8 r7 (ix (0 : Int32))) (16 : Int32))) (1 : Int32)) fun S11 =>
    bd (m_stackAs S11 r7 (18 : Int32)) fun y12 =>
    gd (inb (0 : Int32) 28) <|
    bd (m_goesOn y12 (mB y12 r7 (ix (0 : Int32)))) fun y14 =>
    bd (m_throwsFrom y14 y5.2) fun y15 =>
    m_ends_j195 y15
def m_ends_j251 (S : MS) : Option MS :=
  some S
def m_ends (S : MS) (a1 : Int32) : Option MS :=
  gd (inb a1 16) <|
  lt (mM S (ix a1)) fun r2 =>
  bd (m_codeOf S r2) fun y3 =>
  bd (m_hasD y3.2) fun y4 =>
  if y4 = (0 : Int32) then
    gd (inb (11 : Int32) 28) <|
    lt (tB y3.1 r2 (ix (11 : Int32)) (101 : Int32)) fun S6 =>
    gd (inb (4 : Int32) 28) <|
    lt (tB S6 r2 (ix (4 : Int32)) (mS S6 36)) fun S8 =>
    bd (m_isStore y3.2) fun y9 =>
    if y9 = (0 : Int32) then
      bd (m_finds S8 r2 y3.2) fun y10 =>
      gd (inb (13 : Int32) 28) <|
      if (mB y10 r2 (ix (13 : Int32))) = (0 : Int32) then
        gd (inb (6 : Int32) 28) <|
        gd (inb (5 : Int32) 28) <|
        if (mB y10 r2 (ix (6 : Int32))) = (mB y10 r2 (ix (5 : Int32))) then
          m_ends_j251 y10
        else
          lt (tS y10 48 ((mS y10 48) + (1 : Int32))) fun S14 =>
          bd (m_stackAs S14 r2 (23 : Int32)) fun y15 =>
          gd (inb (6 : Int32) 28) <|
          bd (m_goesOn y15 (mB y15 r2 (ix (6 : Int32)))) fun y17 =>
          bd (m_throwsFrom y17 (a1 + (1 : Int32))) fun y18 =>
          m_ends_j251 y18
      else
        m_ends_j251 y10
    else
      gd (inb (7 : Int32) 28) <|
      gd (inb (mB S8 r2 (ix (7 : Int32))) 24) <|
      gd (inb (0 : Int32) 28) <|
      gd (inb (mB S8 r2 (ix (0 : Int32))) 64) <|
      lt ((mA S8 18 (ix (mB S8 r2 (ix (7 : Int32))))) + (mA S8 4 (ix (mB S8 r2 (ix (0 : Int32)))))) fun v23 =>
      bd (m_isAddress v23) fun y24 =>
      if y24 = (0 : Int32) then
        m_ends_j121 S8 a1 r2 v23 (2 : Int32) (13 : Int32) r2
      else
        m_ends_j121 S8 a1 r2 v23 (0 : Int32) (13 : Int32) r2
  else
    if y3.2 = (5 : Int32) then
      gd (inb (8 : Int32) 28) <|
      gd (inb (mB y3.1 r2 (ix (8 : Int32))) 24) <|
      if (mA y3.1 18 (ix (mB y3.1 r2 (ix (8 : Int32))))) = (0 : Int32) then
        m_ends_j48 y3.1 r2 (1 : Int32) (13 : Int32) r2
      else
        m_ends_j44 y3.1 r2 (13 : Int32) r2
    else
      m_ends_j44 y3.1 r2 (13 : Int32) r2

set_option maxHeartbeats 40000000 in
theorem M_ends (G : zG) (p : Nat) (g : MG) (q n : Nat) (S : MS) (a1 : Int32) (S9 : MS) (hm : m_ends S a1 = some S9) : zMv G yX3_ends cX3_ends 7 none 3 0 0 p g q n [.int a1] S S9 := by
  intro h0 h hI0
  refine zCo.st [some (zrf p), some (.int a1), none, none, none, none, none] rfl rfl (by simp only [zarg_r, zarg_i, zarg_l, zarg_0]; rfl) (fun X o f0 hin hw0 => ?_)
  have f := f0.e
  refine (?_ : zQ (IM h0 p g q n S) G X 0 0 0 [some (zrf p), some (.int a1), none, none, none, none, none] []) h hI0 hw0
  clear hI0 hw0
  generalize hR9 : (S9 : MS) = R at hm
  have hj251 : ∀ (S : MS) (cl sl : Nat), cl + (0) ≤ 0 → sl + (0) ≤ 0 → m_ends_j251 S = some R → zQ (IM h0 p g q n S) G X cl sl 251 [none, none, none, none, none, none, none] [] := by
    intro S cl sl hc hs hm
    unfold m_ends_j251 at hm
    refine zm_retv o f dX3_ends_251 (by omega) (by omega) ((so_e hm).trans hR9.symm)
  have hj195 : ∀ (S : MS) (cl sl : Nat), cl + (0) ≤ 0 → sl + (0) ≤ 0 → m_ends_j195 S = some R → zQ (IM h0 p g q n S) G X cl sl 195 [none, none, none, none, none, none, none] [] := by
    intro S cl sl hc hs hm
    unfold m_ends_j195 at hm
    refine zm_retv o f dX3_ends_195 (by omega) (by omega) ((so_e hm).trans hR9.symm)
  have hj121 : ∀ (S : MS) (x1 : Int32) (x2 : Nat) (x4 : Int32) (s2 : Int32) (s1 : Int32) (s0 : Nat) (cl sl : Nat), cl + (0) ≤ 0 → sl + (0) ≤ 0 → x2 < 16 → s0 < 16 → m_ends_j121 S x1 x2 x4 s2 s1 s0 = some R → zQ (IM h0 p g q n S) G X cl sl 121 [some (zrf p), some (.int x1), some (zrf (g.2.1 x2)), none, some (.int x4), none, none] [.int s2, .int s1, zrf (g.2.1 s0)] := by
    intro S x1 x2 x4 s2 s1 s0 cl sl hc hs h_x2 h_s0 hm
    unfold m_ends_j121 at hm
    obtain ⟨g1, hm⟩ := gd_e hm
    obtain ⟨S2, e_S2, hm⟩ := lt_e hm
    refine zm_rast o h_s0 dX3_ends_121 g1 e_S2 ?_
    refine zQ.s (fun h => zs_aload_n (i := 2) o dX3_ends_122 rfl rfl) ?_
    refine zQ.s (fun h => zs_bipush (v := 14) o dX3_ends_123 (by decide)) ?_
    refine zQ.s (fun h => zs_iload (i := 4) o dX3_ends_125 rfl) ?_
    obtain ⟨g3, hm⟩ := gd_e hm
    obtain ⟨S4, e_S4, hm⟩ := lt_e hm
    refine zm_rast o h_x2 dX3_ends_127 g3 e_S4 ?_
    refine zQ.s (fun h => zs_aload_n (i := 0) o dX3_ends_128 rfl rfl) ?_
    refine zQ.s (fun h => zs_iload_n (i := 1) o dX3_ends_129 rfl rfl) ?_
    obtain ⟨y5, c_y5, hm⟩ := bd_e hm
    refine zm_Vi o ml_X3_265 (M_wrongLoad G p g _ _ _ _ _ _ c_y5) dX3_ends_130 rfl rfl rfl rfl (by omega) (by omega) ?_
    refine zQ.s (fun h => zs_istore (i := 5) o dX3_ends_133 (by decide) (Or.inr rfl) (by simp only [List.set_cons_succ, List.set_cons_zero]; rfl)) ?_
    refine zQ.s (fun h => zs_iload (i := 5) o dX3_ends_135 rfl) ?_
    refine zQ.s (fun h => zs_iconst (v := -1) o dX3_ends_137 (by decide)) ?_
    refine zQ.b (fun h => zs_icmp_eq (tgt := 195) o dX3_ends_138 (by decide)) (fun c => ?_) (fun c => ?_)
    · have hm := if_e1 hm c
      refine zQ.fg (zl_n (zl_n (zl_n (zl_n (zl_n (zl_n (zl_n zl_0))))))) ?_
      exact hj195 _ _ _ (by omega) (by omega) hm
    · have hm := if_e2 hm c
      refine zQ.s (fun h => zs_aload_n (i := 0) o dX3_ends_141 rfl rfl) ?_
      refine zm_getR o fl_X3_74_3 rfl dX3_ends_142 ?_
      refine zQ.s (fun h => zs_iload (i := 5) o dX3_ends_145 rfl) ?_
      obtain ⟨g6, hm⟩ := gd_e hm
      obtain ⟨r7, e_r7, hm⟩ := lt_e hm
      refine zm_row o dX3_ends_147 g6 e_r7 (fun h_r7 => ?_)
      refine zQ.s (fun h => zs_astore (i := 6) o dX3_ends_148 (by decide) (Or.inr rfl) (by simp only [List.set_cons_succ, List.set_cons_zero]; rfl)) ?_
      refine zQ.s (fun h => zs_aload_n (i := 0) o dX3_ends_150 rfl rfl) ?_
      refine zQ.s (fun h => zs_dup o dX3_ends_151 (by first | rfl | exact zrf_cat _)) ?_
      refine zm_getI o fl_X3_268_3 rfl dX3_ends_152 ?_
      refine zQ.s (fun h => zs_iconst (v := 1) o dX3_ends_155 (by decide)) ?_
      refine zQ.s (fun h => zs_iadd o dX3_ends_156) ?_
      obtain ⟨S8, e_S8, hm⟩ := lt_e hm
      refine zm_putI o fl_X3_268_3 rfl rfl ⟨rfl, rfl⟩ dX3_ends_157 e_S8 ?_
      refine zQ.s (fun h => zs_aload_n (i := 0) o dX3_ends_160 rfl rfl) ?_
      refine zm_getR o fl_X3_89_3 rfl dX3_ends_161 ?_
      refine zQ.s (fun h => zs_aload (i := 6) o dX3_ends_164 rfl) ?_
      refine zQ.s (fun h => zs_iconst (v := 0) o dX3_ends_166 (by decide)) ?_
      obtain ⟨g9, hm⟩ := gd_e hm
      refine zm_rald o h_r7 dX3_ends_167 g9 ?_
      refine zQ.s (fun h => zs_bipush (v := 16) o dX3_ends_168 (by decide)) ?_
      refine zQ.s (fun h => zs_irem o dX3_ends_170 (by decide)) ?_
      refine zQ.s (fun h => zs_iconst (v := 1) o dX3_ends_171 (by decide)) ?_
      obtain ⟨g10, hm⟩ := gd_e hm
      obtain ⟨S11, e_S11, hm⟩ := lt_e hm
      refine zm_bast o rfl ⟨rfl, rfl⟩ dX3_ends_172 g10 e_S11 ?_
      refine zQ.s (fun h => zs_aload_n (i := 0) o dX3_ends_173 rfl rfl) ?_
      refine zQ.s (fun h => zs_aload (i := 6) o dX3_ends_174 rfl) ?_
      refine zQ.s (fun h => zs_bipush (v := 18) o dX3_ends_176 (by decide)) ?_
      obtain ⟨y12, c_y12, hm⟩ := bd_e hm
      refine zm_Vv o ml_X3_271 (M_stackAs G p g _ _ _ _ _ h_r7 _ c_y12) dX3_ends_178 rfl rfl rfl rfl (by omega) (by omega) ?_
      refine zQ.s (fun h => zs_aload_n (i := 0) o dX3_ends_181 rfl rfl) ?_
      refine zQ.s (fun h => zs_aload (i := 6) o dX3_ends_182 rfl) ?_
      refine zQ.s (fun h => zs_iconst (v := 0) o dX3_ends_184 (by decide)) ?_
      obtain ⟨g13, hm⟩ := gd_e hm
      refine zm_rald o h_r7 dX3_ends_185 g13 ?_
      obtain ⟨y14, c_y14, hm⟩ := bd_e hm
      refine zm_Vv o ml_X3_274 (M_goesOn G p g _ _ _ _ _ c_y14) dX3_ends_186 rfl rfl rfl rfl (by omega) (by omega) ?_
      refine zQ.s (fun h => zs_aload_n (i := 0) o dX3_ends_189 rfl rfl) ?_
      refine zQ.s (fun h => zs_iload (i := 5) o dX3_ends_190 rfl) ?_
      obtain ⟨y15, c_y15, hm⟩ := bd_e hm
      refine zm_Vv o ml_X3_277 (M_throwsFrom G p g _ _ _ _ _ c_y15) dX3_ends_192 rfl rfl rfl rfl (by omega) (by omega) ?_
      refine zQ.fg (zl_n (zl_n (zl_n (zl_n (zl_n (zl_n (zl_n zl_0))))))) ?_
      exact hj195 _ _ _ (by omega) (by omega) hm
  have hj48 : ∀ (S : MS) (x2 : Nat) (s2 : Int32) (s1 : Int32) (s0 : Nat) (cl sl : Nat), cl + (0) ≤ 0 → sl + (0) ≤ 0 → x2 < 16 → s0 < 16 → m_ends_j48 S x2 s2 s1 s0 = some R → zQ (IM h0 p g q n S) G X cl sl 48 [some (zrf p), none, some (zrf (g.2.1 x2)), none, none, none, none] [.int s2, .int s1, zrf (g.2.1 s0)] := by
    intro S x2 s2 s1 s0 cl sl hc hs h_x2 h_s0 hm
    unfold m_ends_j48 at hm
    obtain ⟨g1, hm⟩ := gd_e hm
    obtain ⟨S2, e_S2, hm⟩ := lt_e hm
    refine zm_rast o h_s0 dX3_ends_48 g1 e_S2 ?_
    refine zQ.s (fun h => zs_aload_n (i := 2) o dX3_ends_49 rfl rfl) ?_
    refine zQ.s (fun h => zs_bipush (v := 15) o dX3_ends_50 (by decide)) ?_
    refine zQ.s (fun h => zs_aload_n (i := 0) o dX3_ends_52 rfl rfl) ?_
    refine zQ.s (fun h => zs_aload_n (i := 2) o dX3_ends_53 rfl rfl) ?_
    obtain ⟨y3, c_y3, hm⟩ := bd_e hm
    refine zm_Vi o ml_X3_262 (M_result G p g _ _ _ _ h_x2 _ _ c_y3) dX3_ends_54 rfl rfl rfl rfl (by omega) (by omega) ?_
    obtain ⟨g4, hm⟩ := gd_e hm
    obtain ⟨S5, e_S5, hm⟩ := lt_e hm
    refine zm_rast o h_x2 dX3_ends_57 g4 e_S5 ?_
    refine zQ.s (fun h => zs_aload_n (i := 2) o dX3_ends_58 rfl rfl) ?_
    refine zQ.s (fun h => zs_bipush (v := 11) o dX3_ends_59 (by decide)) ?_
    refine zQ.s (fun h => zs_bipush (v := 98) o dX3_ends_61 (by decide)) ?_
    obtain ⟨g6, hm⟩ := gd_e hm
    obtain ⟨S7, e_S7, hm⟩ := lt_e hm
    refine zm_rast o h_x2 dX3_ends_63 g6 e_S7 ?_
    refine zm_retv o f dX3_ends_64 (by omega) (by omega) ((so_e hm).trans hR9.symm)
  have hj44 : ∀ (S : MS) (x2 : Nat) (s1 : Int32) (s0 : Nat) (cl sl : Nat), cl + (0) ≤ 0 → sl + (0) ≤ 0 → x2 < 16 → s0 < 16 → m_ends_j44 S x2 s1 s0 = some R → zQ (IM h0 p g q n S) G X cl sl 44 [some (zrf p), none, some (zrf (g.2.1 x2)), none, none, none, none] [.int s1, zrf (g.2.1 s0)] := by
    intro S x2 s1 s0 cl sl hc hs h_x2 h_s0 hm
    unfold m_ends_j44 at hm
    refine zQ.s (fun h => zs_aload_n (i := 2) o dX3_ends_44 rfl rfl) ?_
    refine zQ.s (fun h => zs_bipush (v := 13) o dX3_ends_45 (by decide)) ?_
    obtain ⟨g1, hm⟩ := gd_e hm
    refine zm_rald o h_x2 dX3_ends_47 g1 ?_
    exact hj48 _ _ _ _ _ _ _ (by omega) (by omega) h_x2 h_s0 hm
  unfold m_ends at hm
  refine zQ.s (fun h => zs_aload_n (i := 0) o dX3_ends_0 rfl rfl) ?_
  refine zm_getR o fl_X3_74_3 rfl dX3_ends_1 ?_
  refine zQ.s (fun h => zs_iload_n (i := 1) o dX3_ends_4 rfl rfl) ?_
  obtain ⟨g1, hm⟩ := gd_e hm
  obtain ⟨r2, e_r2, hm⟩ := lt_e hm
  refine zm_row o dX3_ends_5 g1 e_r2 (fun h_r2 => ?_)
  refine zQ.s (fun h => zs_astore_n (i := 2) o dX3_ends_6 rfl (by decide) (Or.inr rfl) (by simp only [List.set_cons_succ, List.set_cons_zero]; rfl)) ?_
  refine zQ.s (fun h => zs_aload_n (i := 0) o dX3_ends_7 rfl rfl) ?_
  refine zQ.s (fun h => zs_aload_n (i := 2) o dX3_ends_8 rfl rfl) ?_
  obtain ⟨y3, c_y3, hm⟩ := bd_e hm
  refine zm_Vi o ml_X3_201 (M_codeOf G p g _ _ _ _ h_r2 _ _ c_y3) dX3_ends_9 rfl rfl rfl rfl (by omega) (by omega) ?_
  refine zQ.s (fun h => zs_istore_n (i := 3) o dX3_ends_12 rfl (by decide) (Or.inr (zc2_ref rfl)) (by simp only [List.set_cons_succ, List.set_cons_zero]; rfl)) ?_
  refine zQ.s (fun h => zs_iload_n (i := 3) o dX3_ends_13 rfl rfl) ?_
  obtain ⟨y4, c_y4, hm⟩ := bd_e hm
  refine zQ_Si o ml_X3_209 (M_hasD G _ _ c_y4) dX3_ends_14 rfl rfl rfl rfl (by omega) (by omega) ?_
  refine zQ.b (fun h => zs_if_eq (tgt := 65) o dX3_ends_17 (by decide)) (fun c => ?_) (fun c => ?_)
  · have hm := if_e1 hm c
    refine zQ.s (fun h => zs_aload_n (i := 2) o dX3_ends_65 rfl rfl) ?_
    refine zQ.s (fun h => zs_bipush (v := 11) o dX3_ends_66 (by decide)) ?_
    refine zQ.s (fun h => zs_bipush (v := 101) o dX3_ends_68 (by decide)) ?_
    obtain ⟨g5, hm⟩ := gd_e hm
    obtain ⟨S6, e_S6, hm⟩ := lt_e hm
    refine zm_rast o h_r2 dX3_ends_70 g5 e_S6 ?_
    refine zQ.s (fun h => zs_aload_n (i := 2) o dX3_ends_71 rfl rfl) ?_
    refine zQ.s (fun h => zs_iconst (v := 4) o dX3_ends_72 (by decide)) ?_
    refine zQ.s (fun h => zs_aload_n (i := 0) o dX3_ends_73 rfl rfl) ?_
    refine zm_getI o fl_X3_133_3 rfl dX3_ends_74 ?_
    obtain ⟨g7, hm⟩ := gd_e hm
    obtain ⟨S8, e_S8, hm⟩ := lt_e hm
    refine zm_rast o h_r2 dX3_ends_77 g7 e_S8 ?_
    refine zQ.s (fun h => zs_iload_n (i := 3) o dX3_ends_78 rfl rfl) ?_
    obtain ⟨y9, c_y9, hm⟩ := bd_e hm
    refine zQ_Si o ml_X3_231 (M_isStore G _ _ c_y9) dX3_ends_79 rfl rfl rfl rfl (by omega) (by omega) ?_
    refine zQ.b (fun h => zs_if_eq (tgt := 196) o dX3_ends_82 (by decide)) (fun c => ?_) (fun c => ?_)
    · have hm := if_e1 hm c
      refine zQ.s (fun h => zs_aload_n (i := 0) o dX3_ends_196 rfl rfl) ?_
      refine zQ.s (fun h => zs_aload_n (i := 2) o dX3_ends_197 rfl rfl) ?_
      refine zQ.s (fun h => zs_iload_n (i := 3) o dX3_ends_198 rfl rfl) ?_
      obtain ⟨y10, c_y10, hm⟩ := bd_e hm
      refine zm_Vv o ml_X3_280 (M_finds G p g _ _ _ _ _ h_r2 _ c_y10) dX3_ends_199 rfl rfl rfl rfl (by omega) (by omega) ?_
      refine zQ.s (fun h => zs_aload_n (i := 2) o dX3_ends_202 rfl rfl) ?_
      refine zQ.s (fun h => zs_bipush (v := 13) o dX3_ends_203 (by decide)) ?_
      obtain ⟨g11, hm⟩ := gd_e hm
      refine zm_rald o h_r2 dX3_ends_205 g11 ?_
      refine zQ.b (fun h => zs_if_ne (tgt := 251) o dX3_ends_206 (by decide)) (fun c => ?_) (fun c => ?_)
      · have hm := if_e2 hm c
        refine zQ.fg (zl_n (zl_n (zl_n (zl_n (zl_n (zl_n (zl_n zl_0))))))) ?_
        exact hj251 _ _ _ (by omega) (by omega) hm
      · have hm := if_e1 hm c
        refine zQ.s (fun h => zs_aload_n (i := 2) o dX3_ends_209 rfl rfl) ?_
        refine zQ.s (fun h => zs_bipush (v := 6) o dX3_ends_210 (by decide)) ?_
        obtain ⟨g12, hm⟩ := gd_e hm
        refine zm_rald o h_r2 dX3_ends_212 g12 ?_
        refine zQ.s (fun h => zs_aload_n (i := 2) o dX3_ends_213 rfl rfl) ?_
        refine zQ.s (fun h => zs_iconst (v := 5) o dX3_ends_214 (by decide)) ?_
        obtain ⟨g13, hm⟩ := gd_e hm
        refine zm_rald o h_r2 dX3_ends_215 g13 ?_
        refine zQ.b (fun h => zs_icmp_eq (tgt := 251) o dX3_ends_216 (by decide)) (fun c => ?_) (fun c => ?_)
        · have hm := if_e1 hm c
          refine zQ.fg (zl_n (zl_n (zl_n (zl_n (zl_n (zl_n (zl_n zl_0))))))) ?_
          exact hj251 _ _ _ (by omega) (by omega) hm
        · have hm := if_e2 hm c
          refine zQ.s (fun h => zs_aload_n (i := 0) o dX3_ends_219 rfl rfl) ?_
          refine zQ.s (fun h => zs_dup o dX3_ends_220 (by first | rfl | exact zrf_cat _)) ?_
          refine zm_getI o fl_X3_283_3 rfl dX3_ends_221 ?_
          refine zQ.s (fun h => zs_iconst (v := 1) o dX3_ends_224 (by decide)) ?_
          refine zQ.s (fun h => zs_iadd o dX3_ends_225) ?_
          obtain ⟨S14, e_S14, hm⟩ := lt_e hm
          refine zm_putI o fl_X3_283_3 rfl rfl ⟨rfl, rfl⟩ dX3_ends_226 e_S14 ?_
          refine zQ.s (fun h => zs_aload_n (i := 0) o dX3_ends_229 rfl rfl) ?_
          refine zQ.s (fun h => zs_aload_n (i := 2) o dX3_ends_230 rfl rfl) ?_
          refine zQ.s (fun h => zs_bipush (v := 23) o dX3_ends_231 (by decide)) ?_
          obtain ⟨y15, c_y15, hm⟩ := bd_e hm
          refine zm_Vv o ml_X3_271 (M_stackAs G p g _ _ _ _ _ h_r2 _ c_y15) dX3_ends_233 rfl rfl rfl rfl (by omega) (by omega) ?_
          refine zQ.s (fun h => zs_aload_n (i := 0) o dX3_ends_236 rfl rfl) ?_
          refine zQ.s (fun h => zs_aload_n (i := 2) o dX3_ends_237 rfl rfl) ?_
          refine zQ.s (fun h => zs_bipush (v := 6) o dX3_ends_238 (by decide)) ?_
          obtain ⟨g16, hm⟩ := gd_e hm
          refine zm_rald o h_r2 dX3_ends_240 g16 ?_
          obtain ⟨y17, c_y17, hm⟩ := bd_e hm
          refine zm_Vv o ml_X3_274 (M_goesOn G p g _ _ _ _ _ c_y17) dX3_ends_241 rfl rfl rfl rfl (by omega) (by omega) ?_
          refine zQ.s (fun h => zs_aload_n (i := 0) o dX3_ends_244 rfl rfl) ?_
          refine zQ.s (fun h => zs_iload_n (i := 1) o dX3_ends_245 rfl rfl) ?_
          refine zQ.s (fun h => zs_iconst (v := 1) o dX3_ends_246 (by decide)) ?_
          refine zQ.s (fun h => zs_iadd o dX3_ends_247) ?_
          obtain ⟨y18, c_y18, hm⟩ := bd_e hm
          refine zm_Vv o ml_X3_277 (M_throwsFrom G p g _ _ _ _ _ c_y18) dX3_ends_248 rfl rfl rfl rfl (by omega) (by omega) ?_
          refine zQ.fg (zl_n (zl_n (zl_n (zl_n (zl_n (zl_n (zl_n zl_0))))))) ?_
          exact hj251 _ _ _ (by omega) (by omega) hm
    · have hm := if_e2 hm c
      refine zQ.s (fun h => zs_aload_n (i := 0) o dX3_ends_85 rfl rfl) ?_
      refine zm_getR o fl_X3_62_3 rfl dX3_ends_86 ?_
      refine zQ.s (fun h => zs_aload_n (i := 2) o dX3_ends_89 rfl rfl) ?_
      refine zQ.s (fun h => zs_bipush (v := 7) o dX3_ends_90 (by decide)) ?_
      obtain ⟨g19, hm⟩ := gd_e hm
      refine zm_rald o h_r2 dX3_ends_92 g19 ?_
      obtain ⟨g20, hm⟩ := gd_e hm
      refine zm_iald o rfl dX3_ends_93 g20 ?_
      refine zQ.s (fun h => zs_aload_n (i := 0) o dX3_ends_94 rfl rfl) ?_
      refine zm_getR o fl_X3_22_3 rfl dX3_ends_95 ?_
      refine zQ.s (fun h => zs_aload_n (i := 2) o dX3_ends_98 rfl rfl) ?_
      refine zQ.s (fun h => zs_iconst (v := 0) o dX3_ends_99 (by decide)) ?_
      obtain ⟨g21, hm⟩ := gd_e hm
      refine zm_rald o h_r2 dX3_ends_100 g21 ?_
      obtain ⟨g22, hm⟩ := gd_e hm
      refine zm_iald o rfl dX3_ends_101 g22 ?_
      refine zQ.s (fun h => zs_iadd o dX3_ends_102) ?_
      obtain ⟨v23, e_v23, hm⟩ := lt_e hm
      refine zQ.nmi e_v23 ?_
      refine zQ.s (fun h => zs_istore (i := 4) o dX3_ends_103 (by decide) (Or.inr rfl) (by simp only [List.set_cons_succ, List.set_cons_zero]; rfl)) ?_
      refine zQ.s (fun h => zs_aload_n (i := 2) o dX3_ends_105 rfl rfl) ?_
      refine zQ.s (fun h => zs_bipush (v := 13) o dX3_ends_106 (by decide)) ?_
      refine zQ.s (fun h => zs_iload (i := 4) o dX3_ends_108 rfl) ?_
      obtain ⟨y24, c_y24, hm⟩ := bd_e hm
      refine zQ_Si o ml_X3_225 (M_isAddress G _ _ c_y24) dX3_ends_110 rfl rfl rfl rfl (by omega) (by omega) ?_
      refine zQ.b (fun h => zs_if_eq (tgt := 120) o dX3_ends_113 (by decide)) (fun c => ?_) (fun c => ?_)
      · have hm := if_e1 hm c
        refine zQ.s (fun h => zs_iconst (v := 2) o dX3_ends_120 (by decide)) ?_
        refine zQ.fg (zl_s (zl_s (zl_s (zl_n (zl_s (zl_n (zl_n zl_0))))))) ?_
        exact hj121 _ _ _ _ _ _ _ _ _ (by omega) (by omega) h_r2 h_r2 hm
      · have hm := if_e2 hm c
        refine zQ.s (fun h => zs_iconst (v := 0) o dX3_ends_116 (by decide)) ?_
        refine zQ.s (fun h => zs_goto (tgt := 121) o dX3_ends_117 (by decide)) ?_
        refine zQ.fg (zl_s (zl_s (zl_s (zl_n (zl_s (zl_n (zl_n zl_0))))))) ?_
        exact hj121 _ _ _ _ _ _ _ _ _ (by omega) (by omega) h_r2 h_r2 hm
  · have hm := if_e2 hm c
    refine zQ.s (fun h => zs_aload_n (i := 2) o dX3_ends_20 rfl rfl) ?_
    refine zQ.s (fun h => zs_bipush (v := 13) o dX3_ends_21 (by decide)) ?_
    refine zQ.s (fun h => zs_iload_n (i := 3) o dX3_ends_23 rfl rfl) ?_
    refine zQ.s (fun h => zs_iconst (v := 5) o dX3_ends_24 (by decide)) ?_
    refine zQ.b (fun h => zs_icmp_ne (tgt := 44) o dX3_ends_25 (by decide)) (fun c => ?_) (fun c => ?_)
    · have hm := if_e2 hm c
      refine zQ.fg (zl_s (zl_n (zl_s (zl_n (zl_n (zl_n (zl_n zl_0))))))) ?_
      exact hj44 _ _ _ _ _ _ (by omega) (by omega) h_r2 h_r2 hm
    · have hm := if_e1 hm c
      refine zQ.s (fun h => zs_aload_n (i := 0) o dX3_ends_28 rfl rfl) ?_
      refine zm_getR o fl_X3_62_3 rfl dX3_ends_29 ?_
      refine zQ.s (fun h => zs_aload_n (i := 2) o dX3_ends_32 rfl rfl) ?_
      refine zQ.s (fun h => zs_bipush (v := 8) o dX3_ends_33 (by decide)) ?_
      obtain ⟨g25, hm⟩ := gd_e hm
      refine zm_rald o h_r2 dX3_ends_35 g25 ?_
      obtain ⟨g26, hm⟩ := gd_e hm
      refine zm_iald o rfl dX3_ends_36 g26 ?_
      refine zQ.b (fun h => zs_if_ne (tgt := 44) o dX3_ends_37 (by decide)) (fun c => ?_) (fun c => ?_)
      · have hm := if_e2 hm c
        refine zQ.fg (zl_s (zl_n (zl_s (zl_n (zl_n (zl_n (zl_n zl_0))))))) ?_
        exact hj44 _ _ _ _ _ _ (by omega) (by omega) h_r2 h_r2 hm
      · have hm := if_e1 hm c
        refine zQ.s (fun h => zs_iconst (v := 1) o dX3_ends_40 (by decide)) ?_
        refine zQ.s (fun h => zs_goto (tgt := 48) o dX3_ends_41 (by decide)) ?_
        refine zQ.fg (zl_s (zl_n (zl_s (zl_n (zl_n (zl_n (zl_n zl_0))))))) ?_
        exact hj48 _ _ _ _ _ _ _ (by omega) (by omega) h_r2 h_r2 hm

def m_endings_j45 (k2 : MS → Int32 → Option MS) (S : MS) (x1 : Int32) : Option MS :=
  k2 S (x1 + (1 : Int32))
def m_endings_j134 (k55 : MS → Int32 → Int32 → Option MS) (S : MS) (x1 : Int32) (x2 : Int32) : Option MS :=
  k55 S x1 (x2 + (1 : Int32))
def m_endings_j110 (k55 : MS → Int32 → Int32 → Option MS) (S : MS) (x1 : Int32) (x2 : Int32) (x3 : Nat) (s2 : Int32) (s1 : Int32) : Option MS :=
  gd (inb s1 24) <|
  lt (tA S 18 (ix s1) s2) fun S2 =>
  gd (inb (9 : Int32) 28) <|
  gd (inb (mB S2 x3 (ix (9 : Int32))) 24) <|
  lt (tA S2 19 (ix (mB S2 x3 (ix (9 : Int32)))) (1 : Int32)) fun S5 =>
  gd (inb (11 : Int32) 28) <|
  lt (tB S5 x3 (ix (11 : Int32)) (101 : Int32)) fun S7 =>
  gd (inb (4 : Int32) 28) <|
  lt (tB S7 x3 (ix (4 : Int32)) (mS S7 36)) fun S9 =>
  m_endings_j134 k55 S9 x1 x2
def m_endings_j140 (S : MS) : Option MS :=
  some S
def m_endings_b55 (k55 : MS → Int32 → Int32 → Option MS) (S : MS) (x1 : Int32) (x2 : Int32) : Option MS :=
  if (mS S 23) ≤ x2 then
    m_endings_j140 S
  else
    if (2 : Int32) ≤ x1 then
      m_endings_j140 S
    else
      gd (inb x2 16) <|
      lt (mM S (ix x2)) fun r2 =>
      gd (inb (11 : Int32) 28) <|
      if (mB S r2 (ix (11 : Int32))) = (98 : Int32) then
        gd (inb (9 : Int32) 28) <|
        gd (inb (13 : Int32) 28) <|
        if (mB S r2 (ix (13 : Int32))) ≤ (0 : Int32) then
          gd (inb (15 : Int32) 28) <|
          m_endings_j110 k55 S (x1 + (1 : Int32)) x2 r2 (mB S r2 (ix (15 : Int32))) (mB S r2 (ix (9 : Int32)))
        else
          m_endings_j110 k55 S (x1 + (1 : Int32)) x2 r2 (0 : Int32) (mB S r2 (ix (9 : Int32)))
      else
        m_endings_j134 k55 S x1 x2
def m_endings_l55 : Nat → MS → Int32 → Int32 → Option MS
  | 0 => fun _ _ _ => none
  | n + 1 => m_endings_b55 (m_endings_l55 n)
def m_endings_b2 (k2 : MS → Int32 → Option MS) (S : MS) (x1 : Int32) : Option MS :=
  if (mS S 23) ≤ x1 then
    m_endings_l55 100 S (0 : Int32) (0 : Int32)
  else
    gd (inb x1 16) <|
    lt (mM S (ix x1)) fun r2 =>
    gd (inb (11 : Int32) 28) <|
    if (mB S r2 (ix (11 : Int32))) = (120 : Int32) then
      gd (inb x1 16) <|
      lt (mM S (ix x1)) fun r5 =>
      gd (inb (12 : Int32) 28) <|
      if (mB S r5 (ix (12 : Int32))) = (mS S 36) then
        bd (m_ends S x1) fun y7 =>
        m_endings_j45 k2 y7 x1
      else
        m_endings_j45 k2 S x1
    else
      m_endings_j45 k2 S x1
def m_endings_l2 : Nat → MS → Int32 → Option MS
  | 0 => fun _ _ => none
  | n + 1 => m_endings_b2 (m_endings_l2 n)
def m_endings (S : MS) : Option MS :=
  m_endings_l2 100 S (0 : Int32)

set_option maxHeartbeats 40000000 in
theorem M_endings (G : zG) (p : Nat) (g : MG) (q n : Nat) (S : MS) (S9 : MS) (hm : m_endings S = some S9) : zMv G yX3_endings cX3_endings 4 none 4 0 0 p g q n [] S S9 := by
  intro h0 h hI0
  refine zCo.st [some (zrf p), none, none, none] rfl rfl (by simp only [zarg_r, zarg_i, zarg_l, zarg_0]; rfl) (fun X o f0 hin hw0 => ?_)
  have f := f0.e
  refine (?_ : zQ (IM h0 p g q n S) G X 0 0 0 [some (zrf p), none, none, none] []) h hI0 hw0
  clear hI0 hw0
  generalize hR9 : (S9 : MS) = R at hm
  have hj140 : ∀ (S : MS) (cl sl : Nat), cl + (0) ≤ 0 → sl + (0) ≤ 0 → m_endings_j140 S = some R → zQ (IM h0 p g q n S) G X cl sl 140 [none, none, none, none] [] := by
    intro S cl sl hc hs hm
    unfold m_endings_j140 at hm
    refine zm_retv o f dX3_endings_140 (by omega) (by omega) ((so_e hm).trans hR9.symm)
  have hl55 : ∀ (n55 : Nat), n55 ≤ 100 → ∀ (S : MS) (x1 : Int32) (x2 : Int32) (cl sl : Nat), cl + (0) ≤ 0 → sl + (0) ≤ 0 → m_endings_l55 n55 S x1 x2 = some R → zQ (IM h0 p g q n S) G X cl sl 55 [some (zrf p), some (.int x1), some (.int x2), none] [] := by
    intro n55
    induction n55 with
    | zero => intro _ S x1 x2 cl sl _ _ hm; exact no_e hm
    | succ n55 ih =>
      intro hf55
      have ih55 := ih (by omega)
      have hj134 : ∀ (S : MS) (x1 : Int32) (x2 : Int32) (cl sl : Nat), cl + (0) ≤ 0 → sl + (0) ≤ 0 → m_endings_j134 (m_endings_l55 n55) S x1 x2 = some R → zQ (IM h0 p g q n S) G X cl sl 134 [some (zrf p), some (.int x1), some (.int x2), none] [] := by
        intro S x1 x2 cl sl hc hs hm
        unfold m_endings_j134 at hm
        refine zQ.s (fun h => zs_iinc (i := 2) (v := x2 + (1 : Int32)) o dX3_endings_134 rfl rfl (by decide) (Or.inr rfl) (by simp only [List.set_cons_succ, List.set_cons_zero]; rfl)) ?_
        refine zQ.s (fun h => zs_goto (tgt := 55) o dX3_endings_137 (by decide)) ?_
        exact ih55 _ _ _ _ _ (by omega) (by omega) hm
      have hj110 : ∀ (S : MS) (x1 : Int32) (x2 : Int32) (x3 : Nat) (s2 : Int32) (s1 : Int32) (cl sl : Nat), cl + (0) ≤ 0 → sl + (0) ≤ 0 → x3 < 16 → m_endings_j110 (m_endings_l55 n55) S x1 x2 x3 s2 s1 = some R → zQ (IM h0 p g q n S) G X cl sl 110 [some (zrf p), some (.int x1), some (.int x2), some (zrf (g.2.1 x3))] [.int s2, .int s1, zrf (g.1 18)] := by
        intro S x1 x2 x3 s2 s1 cl sl hc hs h_x3 hm
        unfold m_endings_j110 at hm
        obtain ⟨g1, hm⟩ := gd_e hm
        obtain ⟨S2, e_S2, hm⟩ := lt_e hm
        refine zm_iast o rfl dX3_endings_110 g1 e_S2 ?_
        refine zQ.s (fun h => zs_aload_n (i := 0) o dX3_endings_111 rfl rfl) ?_
        refine zm_getR o fl_X3_65_3 rfl dX3_endings_112 ?_
        refine zQ.s (fun h => zs_aload_n (i := 3) o dX3_endings_115 rfl rfl) ?_
        refine zQ.s (fun h => zs_bipush (v := 9) o dX3_endings_116 (by decide)) ?_
        obtain ⟨g3, hm⟩ := gd_e hm
        refine zm_rald o h_x3 dX3_endings_118 g3 ?_
        refine zQ.s (fun h => zs_iconst (v := 1) o dX3_endings_119 (by decide)) ?_
        obtain ⟨g4, hm⟩ := gd_e hm
        obtain ⟨S5, e_S5, hm⟩ := lt_e hm
        refine zm_bast o rfl ⟨rfl, rfl⟩ dX3_endings_120 g4 e_S5 ?_
        refine zQ.s (fun h => zs_aload_n (i := 3) o dX3_endings_121 rfl rfl) ?_
        refine zQ.s (fun h => zs_bipush (v := 11) o dX3_endings_122 (by decide)) ?_
        refine zQ.s (fun h => zs_bipush (v := 101) o dX3_endings_124 (by decide)) ?_
        obtain ⟨g6, hm⟩ := gd_e hm
        obtain ⟨S7, e_S7, hm⟩ := lt_e hm
        refine zm_rast o h_x3 dX3_endings_126 g6 e_S7 ?_
        refine zQ.s (fun h => zs_aload_n (i := 3) o dX3_endings_127 rfl rfl) ?_
        refine zQ.s (fun h => zs_iconst (v := 4) o dX3_endings_128 (by decide)) ?_
        refine zQ.s (fun h => zs_aload_n (i := 0) o dX3_endings_129 rfl rfl) ?_
        refine zm_getI o fl_X3_133_3 rfl dX3_endings_130 ?_
        obtain ⟨g8, hm⟩ := gd_e hm
        obtain ⟨S9, e_S9, hm⟩ := lt_e hm
        refine zm_rast o h_x3 dX3_endings_133 g8 e_S9 ?_
        refine zQ.fg (zl_s (zl_s (zl_s (zl_n zl_0)))) ?_
        exact hj134 _ _ _ _ _ (by omega) (by omega) hm
      intro S x1 x2 cl sl hc hs hm
      have hm : m_endings_b55 (m_endings_l55 n55) S x1 x2 = some R := hm
      unfold m_endings_b55 at hm
      refine zQ.s (fun h => zs_iload_n (i := 2) o dX3_endings_55 rfl rfl) ?_
      refine zQ.s (fun h => zs_aload_n (i := 0) o dX3_endings_56 rfl rfl) ?_
      refine zm_getI o fl_X3_198_3 rfl dX3_endings_57 ?_
      refine zQ.b (fun h => zs_icmp_ge (tgt := 140) o dX3_endings_60 (by decide)) (fun c => ?_) (fun c => ?_)
      · have hm := if_e1 hm c
        refine zQ.fg (zl_n (zl_n (zl_n (zl_n zl_0)))) ?_
        exact hj140 _ _ _ (by omega) (by omega) hm
      · have hm := if_e2 hm c
        refine zQ.s (fun h => zs_iload_n (i := 1) o dX3_endings_63 rfl rfl) ?_
        refine zQ.s (fun h => zs_iconst (v := 2) o dX3_endings_64 (by decide)) ?_
        refine zQ.b (fun h => zs_icmp_ge (tgt := 140) o dX3_endings_65 (by decide)) (fun c => ?_) (fun c => ?_)
        · have hm := if_e1 hm c
          refine zQ.fg (zl_n (zl_n (zl_n (zl_n zl_0)))) ?_
          exact hj140 _ _ _ (by omega) (by omega) hm
        · have hm := if_e2 hm c
          refine zQ.s (fun h => zs_aload_n (i := 0) o dX3_endings_68 rfl rfl) ?_
          refine zm_getR o fl_X3_74_3 rfl dX3_endings_69 ?_
          refine zQ.s (fun h => zs_iload_n (i := 2) o dX3_endings_72 rfl rfl) ?_
          obtain ⟨g1, hm⟩ := gd_e hm
          obtain ⟨r2, e_r2, hm⟩ := lt_e hm
          refine zm_row o dX3_endings_73 g1 e_r2 (fun h_r2 => ?_)
          refine zQ.s (fun h => zs_astore_n (i := 3) o dX3_endings_74 rfl (by decide) (Or.inr rfl) (by simp only [List.set_cons_succ, List.set_cons_zero]; rfl)) ?_
          refine zQ.s (fun h => zs_aload_n (i := 3) o dX3_endings_75 rfl rfl) ?_
          refine zQ.s (fun h => zs_bipush (v := 11) o dX3_endings_76 (by decide)) ?_
          obtain ⟨g3, hm⟩ := gd_e hm
          refine zm_rald o h_r2 dX3_endings_78 g3 ?_
          refine zQ.s (fun h => zs_bipush (v := 98) o dX3_endings_79 (by decide)) ?_
          refine zQ.b (fun h => zs_icmp_ne (tgt := 134) o dX3_endings_81 (by decide)) (fun c => ?_) (fun c => ?_)
          · have hm := if_e2 hm c
            refine zQ.fg (zl_s (zl_s (zl_s (zl_n zl_0)))) ?_
            exact hj134 _ _ _ _ _ (by omega) (by omega) hm
          · have hm := if_e1 hm c
            refine zQ.s (fun h => zs_iinc (i := 1) (v := x1 + (1 : Int32)) o dX3_endings_84 rfl rfl (by decide) (Or.inr (zc2_ref rfl)) (by simp only [List.set_cons_succ, List.set_cons_zero]; rfl)) ?_
            refine zQ.s (fun h => zs_aload_n (i := 0) o dX3_endings_87 rfl rfl) ?_
            refine zm_getR o fl_X3_62_3 rfl dX3_endings_88 ?_
            refine zQ.s (fun h => zs_aload_n (i := 3) o dX3_endings_91 rfl rfl) ?_
            refine zQ.s (fun h => zs_bipush (v := 9) o dX3_endings_92 (by decide)) ?_
            obtain ⟨g4, hm⟩ := gd_e hm
            refine zm_rald o h_r2 dX3_endings_94 g4 ?_
            refine zQ.s (fun h => zs_aload_n (i := 3) o dX3_endings_95 rfl rfl) ?_
            refine zQ.s (fun h => zs_bipush (v := 13) o dX3_endings_96 (by decide)) ?_
            obtain ⟨g5, hm⟩ := gd_e hm
            refine zm_rald o h_r2 dX3_endings_98 g5 ?_
            refine zQ.b (fun h => zs_if_le (tgt := 106) o dX3_endings_99 (by decide)) (fun c => ?_) (fun c => ?_)
            · have hm := if_e1 hm c
              refine zQ.s (fun h => zs_aload_n (i := 3) o dX3_endings_106 rfl rfl) ?_
              refine zQ.s (fun h => zs_bipush (v := 15) o dX3_endings_107 (by decide)) ?_
              obtain ⟨g6, hm⟩ := gd_e hm
              refine zm_rald o h_r2 dX3_endings_109 g6 ?_
              exact hj110 _ _ _ _ _ _ _ _ (by omega) (by omega) h_r2 hm
            · have hm := if_e2 hm c
              refine zQ.s (fun h => zs_iconst (v := 0) o dX3_endings_102 (by decide)) ?_
              refine zQ.s (fun h => zs_goto (tgt := 110) o dX3_endings_103 (by decide)) ?_
              exact hj110 _ _ _ _ _ _ _ _ (by omega) (by omega) h_r2 hm
  have hl2 : ∀ (n2 : Nat), n2 ≤ 100 → ∀ (S : MS) (x1 : Int32) (cl sl : Nat), cl + (0) ≤ 0 → sl + (0) ≤ 0 → m_endings_l2 n2 S x1 = some R → zQ (IM h0 p g q n S) G X cl sl 2 [some (zrf p), some (.int x1), none, none] [] := by
    intro n2
    induction n2 with
    | zero => intro _ S x1 cl sl _ _ hm; exact no_e hm
    | succ n2 ih =>
      intro hf2
      have ih2 := ih (by omega)
      have hj45 : ∀ (S : MS) (x1 : Int32) (cl sl : Nat), cl + (0) ≤ 0 → sl + (0) ≤ 0 → m_endings_j45 (m_endings_l2 n2) S x1 = some R → zQ (IM h0 p g q n S) G X cl sl 45 [some (zrf p), some (.int x1), none, none] [] := by
        intro S x1 cl sl hc hs hm
        unfold m_endings_j45 at hm
        refine zQ.s (fun h => zs_iinc (i := 1) (v := x1 + (1 : Int32)) o dX3_endings_45 rfl rfl (by decide) (Or.inr (zc2_ref rfl)) (by simp only [List.set_cons_succ, List.set_cons_zero]; rfl)) ?_
        refine zQ.s (fun h => zs_goto (tgt := 2) o dX3_endings_48 (by decide)) ?_
        exact ih2 _ _ _ _ (by omega) (by omega) hm
      intro S x1 cl sl hc hs hm
      have hm : m_endings_b2 (m_endings_l2 n2) S x1 = some R := hm
      unfold m_endings_b2 at hm
      refine zQ.s (fun h => zs_iload_n (i := 1) o dX3_endings_2 rfl rfl) ?_
      refine zQ.s (fun h => zs_aload_n (i := 0) o dX3_endings_3 rfl rfl) ?_
      refine zm_getI o fl_X3_198_3 rfl dX3_endings_4 ?_
      refine zQ.b (fun h => zs_icmp_ge (tgt := 51) o dX3_endings_7 (by decide)) (fun c => ?_) (fun c => ?_)
      · have hm := if_e1 hm c
        refine zQ.s (fun h => zs_iconst (v := 0) o dX3_endings_51 (by decide)) ?_
        refine zQ.s (fun h => zs_istore_n (i := 1) o dX3_endings_52 rfl (by decide) (Or.inr (zc2_ref rfl)) (by simp only [List.set_cons_succ, List.set_cons_zero]; rfl)) ?_
        refine zQ.s (fun h => zs_iconst (v := 0) o dX3_endings_53 (by decide)) ?_
        refine zQ.s (fun h => zs_istore_n (i := 2) o dX3_endings_54 rfl (by decide) (Or.inr rfl) (by simp only [List.set_cons_succ, List.set_cons_zero]; rfl)) ?_
        exact hl55 100 (Nat.le_refl _) _ _ _ _ _ (by omega) (by omega) hm
      · have hm := if_e2 hm c
        refine zQ.s (fun h => zs_aload_n (i := 0) o dX3_endings_10 rfl rfl) ?_
        refine zm_getR o fl_X3_74_3 rfl dX3_endings_11 ?_
        refine zQ.s (fun h => zs_iload_n (i := 1) o dX3_endings_14 rfl rfl) ?_
        obtain ⟨g1, hm⟩ := gd_e hm
        obtain ⟨r2, e_r2, hm⟩ := lt_e hm
        refine zm_row o dX3_endings_15 g1 e_r2 (fun h_r2 => ?_)
        refine zQ.s (fun h => zs_bipush (v := 11) o dX3_endings_16 (by decide)) ?_
        obtain ⟨g3, hm⟩ := gd_e hm
        refine zm_rald o h_r2 dX3_endings_18 g3 ?_
        refine zQ.s (fun h => zs_bipush (v := 120) o dX3_endings_19 (by decide)) ?_
        refine zQ.b (fun h => zs_icmp_ne (tgt := 45) o dX3_endings_21 (by decide)) (fun c => ?_) (fun c => ?_)
        · have hm := if_e2 hm c
          exact hj45 _ _ _ _ (by omega) (by omega) hm
        · have hm := if_e1 hm c
          refine zQ.s (fun h => zs_aload_n (i := 0) o dX3_endings_24 rfl rfl) ?_
          refine zm_getR o fl_X3_74_3 rfl dX3_endings_25 ?_
          refine zQ.s (fun h => zs_iload_n (i := 1) o dX3_endings_28 rfl rfl) ?_
          obtain ⟨g4, hm⟩ := gd_e hm
          obtain ⟨r5, e_r5, hm⟩ := lt_e hm
          refine zm_row o dX3_endings_29 g4 e_r5 (fun h_r5 => ?_)
          refine zQ.s (fun h => zs_bipush (v := 12) o dX3_endings_30 (by decide)) ?_
          obtain ⟨g6, hm⟩ := gd_e hm
          refine zm_rald o h_r5 dX3_endings_32 g6 ?_
          refine zQ.s (fun h => zs_aload_n (i := 0) o dX3_endings_33 rfl rfl) ?_
          refine zm_getI o fl_X3_133_3 rfl dX3_endings_34 ?_
          refine zQ.b (fun h => zs_icmp_ne (tgt := 45) o dX3_endings_37 (by decide)) (fun c => ?_) (fun c => ?_)
          · have hm := if_e2 hm c
            exact hj45 _ _ _ _ (by omega) (by omega) hm
          · have hm := if_e1 hm c
            refine zQ.s (fun h => zs_aload_n (i := 0) o dX3_endings_40 rfl rfl) ?_
            refine zQ.s (fun h => zs_iload_n (i := 1) o dX3_endings_41 rfl rfl) ?_
            obtain ⟨y7, c_y7, hm⟩ := bd_e hm
            refine zm_Vv o ml_X3_286 (M_ends G p g _ _ _ _ _ c_y7) dX3_endings_42 rfl rfl rfl rfl (by omega) (by omega) ?_
            exact hj45 _ _ _ _ (by omega) (by omega) hm
  unfold m_endings at hm
  refine zQ.s (fun h => zs_iconst (v := 0) o dX3_endings_0 (by decide)) ?_
  refine zQ.s (fun h => zs_istore_n (i := 1) o dX3_endings_1 rfl (by decide) (Or.inr (zc2_ref rfl)) (by simp only [List.set_cons_succ, List.set_cons_zero]; rfl)) ?_
  exact hl2 100 (Nat.le_refl _) _ _ _ _ (by omega) (by omega) hm

def m_tellsEnd_j82 (S : MS) : Option MS :=
  lt (tS S 46 ((mS S 46) + (1 : Int32))) fun S1 =>
  some S1
def m_tellsEnd_j67 (S : MS) (x3 : Nat) (s5 : Int32) (s4 : Int32) (s1 : Int32) : Option MS :=
  gd (inb s4 5) <|
  lt (tT S (pu (mT S) (ix s4) s5)) fun S2 =>
  gd (inb (4 : Int32) 28) <|
  gd (inb (3 : Int32) 5) <|
  lt (tT S2 (pu (mT S2) (ix (3 : Int32)) (mB S2 x3 (ix (4 : Int32))))) fun S5 =>
  gd (inb (4 : Int32) 5) <|
  lt (tT S5 (pu (mT S5) (ix (4 : Int32)) (mS S5 36))) fun S7 =>
  gd (inb s1 2004) <|
  lt (tF S7 (ix s1) (mT S7)) fun S9 =>
  m_tellsEnd_j82 S9
def m_tellsEnd (S : MS) (a1 : Int32) (a2 : Int32) (a3 : Nat) : Option MS :=
  gd (inb (mS S 46) 2004) <|
  lt (tA S 43 (ix (mS S 46)) a1) fun S2 =>
  gd (inb (mS S2 46) 2004) <|
  lt (tA S2 44 (ix (mS S2 46)) a2) fun S4 =>
  lt (tT S4 (fun _ => 0)) fun S5 =>
  gd (inb (1 : Int32) 28) <|
  gd (inb (0 : Int32) 5) <|
  lt (tT S5 (pu (mT S5) (ix (0 : Int32)) (mB S5 a3 (ix (1 : Int32))))) fun S9 =>
  gd (inb (2 : Int32) 28) <|
  gd (inb (1 : Int32) 5) <|
  lt (tT S9 (pu (mT S9) (ix (1 : Int32)) (mB S9 a3 (ix (2 : Int32))))) fun S12 =>
  bd (m_codeOf S12 a3) fun y13 =>
  bd (m_isQueued y13.2) fun y14 =>
  if y14 = (0 : Int32) then
    m_tellsEnd_j67 y13.1 a3 (-1 : Int32) (2 : Int32) (mS S4 46)
  else
    gd (inb (3 : Int32) 28) <|
    m_tellsEnd_j67 y13.1 a3 (mB y13.1 a3 (ix (3 : Int32))) (2 : Int32) (mS S4 46)

set_option maxHeartbeats 40000000 in
theorem M_tellsEnd (G : zG) (p : Nat) (g : MG) (S : MS) (a1 : Int32) (a2 : Int32) (a3 : Nat) (h_a3 : a3 < 16) (S9 : MS) (hm : m_tellsEnd S a1 a2 a3 = some S9) : zMv G yX3_tellsEnd cX3_tellsEnd 4 none 2 1 5 p g 0 0 [.int a1, .int a2, zrf (g.2.1 a3)] S S9 := by
  intro h0 h hI0
  refine zCo.st [some (zrf p), some (.int a1), some (.int a2), some (zrf (g.2.1 a3))] rfl rfl (by simp only [zarg_r, zarg_i, zarg_l, zarg_0]; rfl) (fun X o f0 hin hw0 => ?_)
  have f := f0.e
  refine (?_ : zQ (IM h0 p g 0 0 S) G X 0 0 0 [some (zrf p), some (.int a1), some (.int a2), some (zrf (g.2.1 a3))] []) h hI0 hw0
  clear hI0 hw0
  generalize hR9 : (S9 : MS) = R at hm
  have hj82 : ∀ (S : MS) (cl sl : Nat), cl + (0) ≤ 1 → sl + (0) ≤ 5 → m_tellsEnd_j82 S = some R → zQ (IM h0 p g 0 0 S) G X cl sl 82 [some (zrf p), none, none, none] [] := by
    intro S cl sl hc hs hm
    unfold m_tellsEnd_j82 at hm
    refine zQ.s (fun h => zs_aload_n (i := 0) o dX3_tellsEnd_82 rfl rfl) ?_
    refine zQ.s (fun h => zs_dup o dX3_tellsEnd_83 (by first | rfl | exact zrf_cat _)) ?_
    refine zm_getI o fl_X3_150_3 rfl dX3_tellsEnd_84 ?_
    refine zQ.s (fun h => zs_iconst (v := 1) o dX3_tellsEnd_87 (by decide)) ?_
    refine zQ.s (fun h => zs_iadd o dX3_tellsEnd_88) ?_
    obtain ⟨S1, e_S1, hm⟩ := lt_e hm
    refine zm_putI o fl_X3_150_3 rfl rfl ⟨rfl, rfl⟩ dX3_tellsEnd_89 e_S1 ?_
    refine zm_retv o f dX3_tellsEnd_92 (by omega) (by omega) ((so_e hm).trans hR9.symm)
  have hj67 : ∀ (qq : Nat) (hqq : qq ≠ 0) (S : MS) (x3 : Nat) (s5 : Int32) (s4 : Int32) (s1 : Int32) (cl sl : Nat), cl + (0) ≤ 1 → sl + (0) ≤ 5 → x3 < 16 → m_tellsEnd_j67 S x3 s5 s4 s1 = some R → zQ (IM h0 p g qq 5 S) G X cl sl 67 [some (zrf p), none, none, some (zrf (g.2.1 x3))] [.int s5, .int s4, zrf qq, zrf qq, .int s1, zrf (g.1 45)] := by
    intro qq hqq S x3 s5 s4 s1 cl sl hc hs h_x3 hm
    unfold m_tellsEnd_j67 at hm
    obtain ⟨g1, hm⟩ := gd_e hm
    obtain ⟨S2, e_S2, hm⟩ := lt_e hm
    refine zm_qst o hqq dX3_tellsEnd_67 g1 e_S2 ?_
    refine zQ.s (fun h => zs_dup o dX3_tellsEnd_68 (by first | rfl | exact zrf_cat _)) ?_
    refine zQ.s (fun h => zs_iconst (v := 3) o dX3_tellsEnd_69 (by decide)) ?_
    refine zQ.s (fun h => zs_aload_n (i := 3) o dX3_tellsEnd_70 rfl rfl) ?_
    refine zQ.s (fun h => zs_iconst (v := 4) o dX3_tellsEnd_71 (by decide)) ?_
    obtain ⟨g3, hm⟩ := gd_e hm
    refine zm_rald o h_x3 dX3_tellsEnd_72 g3 ?_
    obtain ⟨g4, hm⟩ := gd_e hm
    obtain ⟨S5, e_S5, hm⟩ := lt_e hm
    refine zm_qst o hqq dX3_tellsEnd_73 g4 e_S5 ?_
    refine zQ.s (fun h => zs_dup o dX3_tellsEnd_74 (by first | rfl | exact zrf_cat _)) ?_
    refine zQ.s (fun h => zs_iconst (v := 4) o dX3_tellsEnd_75 (by decide)) ?_
    refine zQ.s (fun h => zs_aload_n (i := 0) o dX3_tellsEnd_76 rfl rfl) ?_
    refine zm_getI o fl_X3_133_3 rfl dX3_tellsEnd_77 ?_
    obtain ⟨g6, hm⟩ := gd_e hm
    obtain ⟨S7, e_S7, hm⟩ := lt_e hm
    refine zm_qst o hqq dX3_tellsEnd_80 g6 e_S7 ?_
    obtain ⟨g8, hm⟩ := gd_e hm
    obtain ⟨S9, e_S9, hm⟩ := lt_e hm
    refine zm_lst o hqq dX3_tellsEnd_81 g8 e_S9 ?_
    refine zQ.fg (zl_s (zl_n (zl_n (zl_n zl_0)))) ?_
    exact hj82 _ _ _ (by omega) (by omega) hm
  unfold m_tellsEnd at hm
  refine zQ.s (fun h => zs_aload_n (i := 0) o dX3_tellsEnd_0 rfl rfl) ?_
  refine zm_getR o fl_X3_101_3 rfl dX3_tellsEnd_1 ?_
  refine zQ.s (fun h => zs_aload_n (i := 0) o dX3_tellsEnd_4 rfl rfl) ?_
  refine zm_getI o fl_X3_150_3 rfl dX3_tellsEnd_5 ?_
  refine zQ.s (fun h => zs_iload_n (i := 1) o dX3_tellsEnd_8 rfl rfl) ?_
  obtain ⟨g1, hm⟩ := gd_e hm
  obtain ⟨S2, e_S2, hm⟩ := lt_e hm
  refine zm_iast o rfl dX3_tellsEnd_9 g1 e_S2 ?_
  refine zQ.s (fun h => zs_aload_n (i := 0) o dX3_tellsEnd_10 rfl rfl) ?_
  refine zm_getR o fl_X3_104_3 rfl dX3_tellsEnd_11 ?_
  refine zQ.s (fun h => zs_aload_n (i := 0) o dX3_tellsEnd_14 rfl rfl) ?_
  refine zm_getI o fl_X3_150_3 rfl dX3_tellsEnd_15 ?_
  refine zQ.s (fun h => zs_iload_n (i := 2) o dX3_tellsEnd_18 rfl rfl) ?_
  obtain ⟨g3, hm⟩ := gd_e hm
  obtain ⟨S4, e_S4, hm⟩ := lt_e hm
  refine zm_iast o rfl dX3_tellsEnd_19 g3 e_S4 ?_
  refine zQ.s (fun h => zs_aload_n (i := 3) o dX3_tellsEnd_20 rfl rfl) ?_
  refine zm_nnrow (tgt := 82) o (fun h hI => hI.1) h_a3 dX3_tellsEnd_21 (by decide) ?_
  refine zQ.s (fun h => zs_aload_n (i := 0) o dX3_tellsEnd_24 rfl rfl) ?_
  refine zm_getR o fl_X3_108_3 rfl dX3_tellsEnd_25 ?_
  refine zQ.s (fun h => zs_aload_n (i := 0) o dX3_tellsEnd_28 rfl rfl) ?_
  refine zm_getI o fl_X3_150_3 rfl dX3_tellsEnd_29 ?_
  refine zQ.s (fun h => zs_iconst (v := 5) o dX3_tellsEnd_32 (by decide)) ?_
  obtain ⟨S5, e_S5, hm⟩ := lt_e hm
  refine zm_newq (N := 5) o (by decide) rfl (by decide) dX3_tellsEnd_33 (by omega) (by omega) e_S5 (fun qv6 h_qv6 => ?_)
  refine zQ.s (fun h => zs_dup o dX3_tellsEnd_35 (by first | rfl | exact zrf_cat _)) ?_
  refine zQ.s (fun h => zs_iconst (v := 0) o dX3_tellsEnd_36 (by decide)) ?_
  refine zQ.s (fun h => zs_aload_n (i := 3) o dX3_tellsEnd_37 rfl rfl) ?_
  refine zQ.s (fun h => zs_iconst (v := 1) o dX3_tellsEnd_38 (by decide)) ?_
  obtain ⟨g7, hm⟩ := gd_e hm
  refine zm_rald o h_a3 dX3_tellsEnd_39 g7 ?_
  obtain ⟨g8, hm⟩ := gd_e hm
  obtain ⟨S9, e_S9, hm⟩ := lt_e hm
  refine zm_qst o h_qv6 dX3_tellsEnd_40 g8 e_S9 ?_
  refine zQ.s (fun h => zs_dup o dX3_tellsEnd_41 (by first | rfl | exact zrf_cat _)) ?_
  refine zQ.s (fun h => zs_iconst (v := 1) o dX3_tellsEnd_42 (by decide)) ?_
  refine zQ.s (fun h => zs_aload_n (i := 3) o dX3_tellsEnd_43 rfl rfl) ?_
  refine zQ.s (fun h => zs_iconst (v := 2) o dX3_tellsEnd_44 (by decide)) ?_
  obtain ⟨g10, hm⟩ := gd_e hm
  refine zm_rald o h_a3 dX3_tellsEnd_45 g10 ?_
  obtain ⟨g11, hm⟩ := gd_e hm
  obtain ⟨S12, e_S12, hm⟩ := lt_e hm
  refine zm_qst o h_qv6 dX3_tellsEnd_46 g11 e_S12 ?_
  refine zQ.s (fun h => zs_dup o dX3_tellsEnd_47 (by first | rfl | exact zrf_cat _)) ?_
  refine zQ.s (fun h => zs_iconst (v := 2) o dX3_tellsEnd_48 (by decide)) ?_
  refine zQ.s (fun h => zs_aload_n (i := 0) o dX3_tellsEnd_49 rfl rfl) ?_
  refine zQ.s (fun h => zs_aload_n (i := 3) o dX3_tellsEnd_50 rfl rfl) ?_
  obtain ⟨y13, c_y13, hm⟩ := bd_e hm
  refine zm_Vi5 o ml_X3_201 (M_codeOf G p g _ _ _ _ h_a3 _ _ c_y13) dX3_tellsEnd_51 rfl rfl rfl (by simp only [List.map_cons, List.map_nil, zrf_cat, zcat_i, List.sum_cons, List.sum_nil]; omega) (by omega) (by omega) ?_
  obtain ⟨y14, c_y14, hm⟩ := bd_e hm
  refine zQ_Si5 o ml_X3_212 (M_isQueued G _ _ c_y14) dX3_tellsEnd_54 rfl rfl rfl (by simp only [List.map_cons, List.map_nil, zrf_cat, zcat_i, List.sum_cons, List.sum_nil]; omega) (by omega) (by omega) ?_
  refine zQ.b (fun h => zs_if_eq (tgt := 66) o dX3_tellsEnd_57 (by decide)) (fun c => ?_) (fun c => ?_)
  · have hm := if_e1 hm c
    refine zQ.s (fun h => zs_iconst (v := -1) o dX3_tellsEnd_66 (by decide)) ?_
    refine zQ.fg (zl_s (zl_n (zl_n (zl_s zl_0)))) ?_
    exact hj67 _ h_qv6 _ _ _ _ _ _ _ (by omega) (by omega) h_a3 hm
  · have hm := if_e2 hm c
    refine zQ.s (fun h => zs_aload_n (i := 3) o dX3_tellsEnd_60 rfl rfl) ?_
    refine zQ.s (fun h => zs_iconst (v := 3) o dX3_tellsEnd_61 (by decide)) ?_
    obtain ⟨g15, hm⟩ := gd_e hm
    refine zm_rald o h_a3 dX3_tellsEnd_62 g15 ?_
    refine zQ.s (fun h => zs_goto (tgt := 67) o dX3_tellsEnd_63 (by decide)) ?_
    refine zQ.fg (zl_s (zl_n (zl_n (zl_s zl_0)))) ?_
    exact hj67 _ h_qv6 _ _ _ _ _ _ _ (by omega) (by omega) h_a3 hm

def m_tellsEndN_j82 (S : MS) : Option MS :=
  lt (tS S 46 ((mS S 46) + (1 : Int32))) fun S1 =>
  some S1
def m_tellsEndN (S : MS) (a1 : Int32) (a2 : Int32) : Option MS :=
  gd (inb (mS S 46) 2004) <|
  lt (tA S 43 (ix (mS S 46)) a1) fun S2 =>
  gd (inb (mS S2 46) 2004) <|
  lt (tA S2 44 (ix (mS S2 46)) a2) fun S4 =>
  m_tellsEndN_j82 S4

set_option maxHeartbeats 40000000 in
theorem M_tellsEndN (G : zG) (p : Nat) (g : MG) (q n : Nat) (S : MS) (a1 : Int32) (a2 : Int32) (S9 : MS) (hm : m_tellsEndN S a1 a2 = some S9) : zMv G yX3_tellsEnd cX3_tellsEnd 4 none 0 0 0 p g q n [.int a1, .int a2, zrf 0] S S9 := by
  intro h0 h hI0
  refine zCo.st [some (zrf p), some (.int a1), some (.int a2), some (zrf 0)] rfl rfl (by simp only [zarg_r, zarg_i, zarg_l, zarg_0]; rfl) (fun X o f0 hin hw0 => ?_)
  have f := f0.e
  refine (?_ : zQ (IM h0 p g q n S) G X 0 0 0 [some (zrf p), some (.int a1), some (.int a2), some (zrf 0)] []) h hI0 hw0
  clear hI0 hw0
  generalize hR9 : (S9 : MS) = R at hm
  have hj82 : ∀ (S : MS) (cl sl : Nat), cl + (0) ≤ 0 → sl + (0) ≤ 0 → m_tellsEndN_j82 S = some R → zQ (IM h0 p g q n S) G X cl sl 82 [some (zrf p), none, none, none] [] := by
    intro S cl sl hc hs hm
    unfold m_tellsEndN_j82 at hm
    refine zQ.s (fun h => zs_aload_n (i := 0) o dX3_tellsEnd_82 rfl rfl) ?_
    refine zQ.s (fun h => zs_dup o dX3_tellsEnd_83 (by first | rfl | exact zrf_cat _)) ?_
    refine zm_getI o fl_X3_150_3 rfl dX3_tellsEnd_84 ?_
    refine zQ.s (fun h => zs_iconst (v := 1) o dX3_tellsEnd_87 (by decide)) ?_
    refine zQ.s (fun h => zs_iadd o dX3_tellsEnd_88) ?_
    obtain ⟨S1, e_S1, hm⟩ := lt_e hm
    refine zm_putI o fl_X3_150_3 rfl rfl ⟨rfl, rfl⟩ dX3_tellsEnd_89 e_S1 ?_
    refine zm_retv o f dX3_tellsEnd_92 (by omega) (by omega) ((so_e hm).trans hR9.symm)
  unfold m_tellsEndN at hm
  refine zQ.s (fun h => zs_aload_n (i := 0) o dX3_tellsEnd_0 rfl rfl) ?_
  refine zm_getR o fl_X3_101_3 rfl dX3_tellsEnd_1 ?_
  refine zQ.s (fun h => zs_aload_n (i := 0) o dX3_tellsEnd_4 rfl rfl) ?_
  refine zm_getI o fl_X3_150_3 rfl dX3_tellsEnd_5 ?_
  refine zQ.s (fun h => zs_iload_n (i := 1) o dX3_tellsEnd_8 rfl rfl) ?_
  obtain ⟨g1, hm⟩ := gd_e hm
  obtain ⟨S2, e_S2, hm⟩ := lt_e hm
  refine zm_iast o rfl dX3_tellsEnd_9 g1 e_S2 ?_
  refine zQ.s (fun h => zs_aload_n (i := 0) o dX3_tellsEnd_10 rfl rfl) ?_
  refine zm_getR o fl_X3_104_3 rfl dX3_tellsEnd_11 ?_
  refine zQ.s (fun h => zs_aload_n (i := 0) o dX3_tellsEnd_14 rfl rfl) ?_
  refine zm_getI o fl_X3_150_3 rfl dX3_tellsEnd_15 ?_
  refine zQ.s (fun h => zs_iload_n (i := 2) o dX3_tellsEnd_18 rfl rfl) ?_
  obtain ⟨g3, hm⟩ := gd_e hm
  obtain ⟨S4, e_S4, hm⟩ := lt_e hm
  refine zm_iast o rfl dX3_tellsEnd_19 g3 e_S4 ?_
  refine zQ.s (fun h => zs_aload_n (i := 3) o dX3_tellsEnd_20 rfl rfl) ?_
  refine zm_null (tgt := 82) o dX3_tellsEnd_21 (by decide) ?_
  refine zQ.fg (zl_s (zl_n (zl_n (zl_n zl_0)))) ?_
  exact hj82 _ _ _ (by omega) (by omega) hm

def m_handles (S : MS) (a1 : Int32) (a2 : Int32) : Option MS :=
  bd (m_throwsFrom S (0 : Int32)) fun y1 =>
  gd (inb (0 : Int32) 5) <|
  lt (tA y1 28 (ix (0 : Int32)) (0 : Int32)) fun S3 =>
  lt (tS S3 40 a1) fun S4 =>
  lt (tS S4 39 (1 : Int32)) fun S5 =>
  bd (m_goesOn S5 a2) fun y6 =>
  lt (tS y6 41 a2) fun S7 =>
  some S7

set_option maxHeartbeats 40000000 in
theorem M_handles (G : zG) (p : Nat) (g : MG) (q n : Nat) (S : MS) (a1 : Int32) (a2 : Int32) (S9 : MS) (hm : m_handles S a1 a2 = some S9) : zMv G yX3_handles cX3_handles 3 none 3 0 0 p g q n [.int a1, .int a2] S S9 := by
  intro h0 h hI0
  refine zCo.st [some (zrf p), some (.int a1), some (.int a2)] rfl rfl (by simp only [zarg_r, zarg_i, zarg_l, zarg_0]; rfl) (fun X o f0 hin hw0 => ?_)
  have f := f0.e
  refine (?_ : zQ (IM h0 p g q n S) G X 0 0 0 [some (zrf p), some (.int a1), some (.int a2)] []) h hI0 hw0
  clear hI0 hw0
  generalize hR9 : (S9 : MS) = R at hm
  unfold m_handles at hm
  refine zQ.s (fun h => zs_aload_n (i := 0) o dX3_handles_0 rfl rfl) ?_
  refine zQ.s (fun h => zs_iconst (v := 0) o dX3_handles_1 (by decide)) ?_
  obtain ⟨y1, c_y1, hm⟩ := bd_e hm
  refine zm_Vv o ml_X3_277 (M_throwsFrom G p g _ _ _ _ _ c_y1) dX3_handles_2 rfl rfl rfl rfl (by omega) (by omega) ?_
  refine zQ.s (fun h => zs_aload_n (i := 0) o dX3_handles_5 rfl rfl) ?_
  refine zm_getR o fl_X3_80_3 rfl dX3_handles_6 ?_
  refine zQ.s (fun h => zs_iconst (v := 0) o dX3_handles_9 (by decide)) ?_
  refine zQ.s (fun h => zs_iconst (v := 0) o dX3_handles_10 (by decide)) ?_
  obtain ⟨g2, hm⟩ := gd_e hm
  obtain ⟨S3, e_S3, hm⟩ := lt_e hm
  refine zm_iast o rfl dX3_handles_11 g2 e_S3 ?_
  refine zQ.s (fun h => zs_aload_n (i := 0) o dX3_handles_12 rfl rfl) ?_
  refine zQ.s (fun h => zs_iload_n (i := 1) o dX3_handles_13 rfl rfl) ?_
  obtain ⟨S4, e_S4, hm⟩ := lt_e hm
  refine zm_putI o fl_X3_288_3 rfl rfl ⟨rfl, rfl⟩ dX3_handles_14 e_S4 ?_
  refine zQ.s (fun h => zs_aload_n (i := 0) o dX3_handles_17 rfl rfl) ?_
  refine zQ.s (fun h => zs_iconst (v := 1) o dX3_handles_18 (by decide)) ?_
  obtain ⟨S5, e_S5, hm⟩ := lt_e hm
  refine zm_putI o fl_X3_291_3 rfl rfl ⟨rfl, rfl⟩ dX3_handles_19 e_S5 ?_
  refine zQ.s (fun h => zs_aload_n (i := 0) o dX3_handles_22 rfl rfl) ?_
  refine zQ.s (fun h => zs_iload_n (i := 2) o dX3_handles_23 rfl rfl) ?_
  obtain ⟨y6, c_y6, hm⟩ := bd_e hm
  refine zm_Vv o ml_X3_274 (M_goesOn G p g _ _ _ _ _ c_y6) dX3_handles_24 rfl rfl rfl rfl (by omega) (by omega) ?_
  refine zQ.s (fun h => zs_aload_n (i := 0) o dX3_handles_27 rfl rfl) ?_
  refine zQ.s (fun h => zs_iload_n (i := 2) o dX3_handles_28 rfl rfl) ?_
  obtain ⟨S7, e_S7, hm⟩ := lt_e hm
  refine zm_putI o fl_X3_294_3 rfl rfl ⟨rfl, rfl⟩ dX3_handles_29 e_S7 ?_
  refine zm_retv o f dX3_handles_32 (by omega) (by omega) ((so_e hm).trans hR9.symm)

def m_traps_j26 (S : MS) : Option MS :=
  bd (m_throwsFrom S (0 : Int32)) fun y1 =>
  gd (inb (0 : Int32) 5) <|
  lt (tA y1 28 (ix (0 : Int32)) (0 : Int32)) fun S3 =>
  lt (tS S3 25 (0 : Int32)) fun S4 =>
  lt (tS S4 27 (1 : Int32)) fun S5 =>
  lt (tS S5 37 (1 : Int32)) fun S6 =>
  some S6
def m_traps (S : MS) (a1 : Nat) (a2 : Int32) : Option MS :=
  gd (inb (0 : Int32) 28) <|
  lt (mB S a1 (ix (0 : Int32))) fun v2 =>
  bd (m_tellsEnd S a2 v2 a1) fun y3 =>
  if (mS y3 39) = (0 : Int32) then
    if (mS y3 10) = (-1 : Int32) then
      m_traps_j26 y3
    else
      bd (m_handles y3 (v2 + (1 : Int32)) (mS y3 10)) fun y4 =>
      some y4
  else
    m_traps_j26 y3

set_option maxHeartbeats 40000000 in
theorem M_traps (G : zG) (p : Nat) (g : MG) (S : MS) (a1 : Nat) (a2 : Int32) (h_a1 : a1 < 16) (S9 : MS) (hm : m_traps S a1 a2 = some S9) : zMv G yX3_traps cX3_traps 4 none 4 1 5 p g 0 0 [zrf (g.2.1 a1), .int a2] S S9 := by
  intro h0 h hI0
  refine zCo.st [some (zrf p), some (zrf (g.2.1 a1)), some (.int a2), none] rfl rfl (by simp only [zarg_r, zarg_i, zarg_l, zarg_0]; rfl) (fun X o f0 hin hw0 => ?_)
  have f := f0.e
  refine (?_ : zQ (IM h0 p g 0 0 S) G X 0 0 0 [some (zrf p), some (zrf (g.2.1 a1)), some (.int a2), none] []) h hI0 hw0
  clear hI0 hw0
  generalize hR9 : (S9 : MS) = R at hm
  have hj26 : ∀ (S : MS) (cl sl : Nat), cl + (0) ≤ 1 → sl + (0) ≤ 5 → m_traps_j26 S = some R → zQ (IM h0 p g 0 0 S) G X cl sl 26 [some (zrf p), none, none, none] [] := by
    intro S cl sl hc hs hm
    unfold m_traps_j26 at hm
    refine zQ.s (fun h => zs_aload_n (i := 0) o dX3_traps_26 rfl rfl) ?_
    refine zQ.s (fun h => zs_iconst (v := 0) o dX3_traps_27 (by decide)) ?_
    obtain ⟨y1, c_y1, hm⟩ := bd_e hm
    refine zm_Vv o ml_X3_277 (M_throwsFrom G p g _ _ _ _ _ c_y1) dX3_traps_28 rfl rfl rfl rfl (by omega) (by omega) ?_
    refine zQ.s (fun h => zs_aload_n (i := 0) o dX3_traps_31 rfl rfl) ?_
    refine zm_getR o fl_X3_80_3 rfl dX3_traps_32 ?_
    refine zQ.s (fun h => zs_iconst (v := 0) o dX3_traps_35 (by decide)) ?_
    refine zQ.s (fun h => zs_iconst (v := 0) o dX3_traps_36 (by decide)) ?_
    obtain ⟨g2, hm⟩ := gd_e hm
    obtain ⟨S3, e_S3, hm⟩ := lt_e hm
    refine zm_iast o rfl dX3_traps_37 g2 e_S3 ?_
    refine zQ.s (fun h => zs_aload_n (i := 0) o dX3_traps_38 rfl rfl) ?_
    refine zQ.s (fun h => zs_iconst (v := 0) o dX3_traps_39 (by decide)) ?_
    obtain ⟨S4, e_S4, hm⟩ := lt_e hm
    refine zm_putI o fl_X3_177_3 rfl rfl ⟨rfl, rfl⟩ dX3_traps_40 e_S4 ?_
    refine zQ.s (fun h => zs_aload_n (i := 0) o dX3_traps_43 rfl rfl) ?_
    refine zQ.s (fun h => zs_iconst (v := 1) o dX3_traps_44 (by decide)) ?_
    obtain ⟨S5, e_S5, hm⟩ := lt_e hm
    refine zm_putI o fl_X3_174_3 rfl rfl ⟨rfl, rfl⟩ dX3_traps_45 e_S5 ?_
    refine zQ.s (fun h => zs_aload_n (i := 0) o dX3_traps_48 rfl rfl) ?_
    refine zQ.s (fun h => zs_iconst (v := 1) o dX3_traps_49 (by decide)) ?_
    obtain ⟨S6, e_S6, hm⟩ := lt_e hm
    refine zm_putI o fl_X3_147_3 rfl rfl ⟨rfl, rfl⟩ dX3_traps_50 e_S6 ?_
    refine zm_retv o f dX3_traps_53 (by omega) (by omega) ((so_e hm).trans hR9.symm)
  unfold m_traps at hm
  refine zQ.s (fun h => zs_aload_n (i := 1) o dX3_traps_0 rfl rfl) ?_
  refine zQ.s (fun h => zs_iconst (v := 0) o dX3_traps_1 (by decide)) ?_
  obtain ⟨g1, hm⟩ := gd_e hm
  refine zm_rald o h_a1 dX3_traps_2 g1 ?_
  obtain ⟨v2, e_v2, hm⟩ := lt_e hm
  refine zQ.nmi e_v2 ?_
  refine zQ.s (fun h => zs_istore_n (i := 3) o dX3_traps_3 rfl (by decide) (Or.inr rfl) (by simp only [List.set_cons_succ, List.set_cons_zero]; rfl)) ?_
  refine zQ.s (fun h => zs_aload_n (i := 0) o dX3_traps_4 rfl rfl) ?_
  refine zQ.s (fun h => zs_iload_n (i := 2) o dX3_traps_5 rfl rfl) ?_
  refine zQ.s (fun h => zs_iload_n (i := 3) o dX3_traps_6 rfl rfl) ?_
  refine zQ.s (fun h => zs_aload_n (i := 1) o dX3_traps_7 rfl rfl) ?_
  obtain ⟨y3, c_y3, hm⟩ := bd_e hm
  refine zm_Vv o ml_X3_297 (M_tellsEnd G p g _ _ _ _ h_a1 _ c_y3) dX3_traps_8 rfl rfl rfl rfl (by omega) (by omega) ?_
  refine zQ.s (fun h => zs_aload_n (i := 0) o dX3_traps_11 rfl rfl) ?_
  refine zm_getI o fl_X3_291_3 rfl dX3_traps_12 ?_
  refine zQ.b (fun h => zs_if_ne (tgt := 26) o dX3_traps_15 (by decide)) (fun c => ?_) (fun c => ?_)
  · have hm := if_e2 hm c
    refine zQ.fg (zl_s (zl_n (zl_n (zl_n zl_0)))) ?_
    exact hj26 _ _ _ (by omega) (by omega) hm
  · have hm := if_e1 hm c
    refine zQ.s (fun h => zs_aload_n (i := 0) o dX3_traps_18 rfl rfl) ?_
    refine zm_getI o fl_X3_38_3 rfl dX3_traps_19 ?_
    refine zQ.s (fun h => zs_iconst (v := -1) o dX3_traps_22 (by decide)) ?_
    refine zQ.b (fun h => zs_icmp_ne (tgt := 54) o dX3_traps_23 (by decide)) (fun c => ?_) (fun c => ?_)
    · have hm := if_e2 hm c
      refine zQ.s (fun h => zs_aload_n (i := 0) o dX3_traps_54 rfl rfl) ?_
      refine zQ.s (fun h => zs_iload_n (i := 3) o dX3_traps_55 rfl rfl) ?_
      refine zQ.s (fun h => zs_iconst (v := 1) o dX3_traps_56 (by decide)) ?_
      refine zQ.s (fun h => zs_iadd o dX3_traps_57) ?_
      refine zQ.s (fun h => zs_aload_n (i := 0) o dX3_traps_58 rfl rfl) ?_
      refine zm_getI o fl_X3_38_3 rfl dX3_traps_59 ?_
      obtain ⟨y4, c_y4, hm⟩ := bd_e hm
      refine zm_Vv o ml_X3_301 (M_handles G p g _ _ _ _ _ _ c_y4) dX3_traps_62 rfl rfl rfl rfl (by omega) (by omega) ?_
      refine zm_retv o f dX3_traps_65 (by omega) (by omega) ((so_e hm).trans hR9.symm)
    · have hm := if_e1 hm c
      refine zQ.fg (zl_s (zl_n (zl_n (zl_n zl_0)))) ?_
      exact hj26 _ _ _ (by omega) (by omega) hm

def m_leaves_b19 (k19 : MS → Nat → Int32 → Option MS) (S : MS) (x1 : Nat) (x2 : Int32) : Option MS :=
  if (mS S 23) ≤ x2 then
    gd (inb (mS S 23) 16) <|
    lt (tM S (ix (mS S 23)) x1) fun S2 =>
    some S2
  else
    gd (inb (x2 + (1 : Int32)) 16) <|
    lt (mM S (ix (x2 + (1 : Int32)))) fun r4 =>
    gd (inb x2 16) <|
    lt (tM S (ix x2) r4) fun S6 =>
    k19 S6 x1 (x2 + (1 : Int32))
def m_leaves_l19 : Nat → MS → Nat → Int32 → Option MS
  | 0 => fun _ _ _ => none
  | n + 1 => m_leaves_b19 (m_leaves_l19 n)
def m_leaves (S : MS) : Option MS :=
  lt (tS S 23 ((mS S 23) - (1 : Int32))) fun S1 =>
  gd (inb (0 : Int32) 16) <|
  lt (mM S1 (ix (0 : Int32))) fun r3 =>
  m_leaves_l19 100 S1 r3 (0 : Int32)

set_option maxHeartbeats 40000000 in
theorem M_leaves (G : zG) (p : Nat) (g : MG) (q n : Nat) (S : MS) (S9 : MS) (hm : m_leaves S = some S9) : zMv G yX3_leaves cX3_leaves 3 none 0 0 0 p g q n [] S S9 := by
  intro h0 h hI0
  refine zCo.st [some (zrf p), none, none] rfl rfl (by simp only [zarg_r, zarg_i, zarg_l, zarg_0]; rfl) (fun X o f0 hin hw0 => ?_)
  have f := f0.e
  refine (?_ : zQ (IM h0 p g q n S) G X 0 0 0 [some (zrf p), none, none] []) h hI0 hw0
  clear hI0 hw0
  generalize hR9 : (S9 : MS) = R at hm
  have hl19 : ∀ (n19 : Nat), n19 ≤ 100 → ∀ (S : MS) (x1 : Nat) (x2 : Int32) (cl sl : Nat), cl + (0) ≤ 0 → sl + (0) ≤ 0 → x1 < 16 → m_leaves_l19 n19 S x1 x2 = some R → zQ (IM h0 p g q n S) G X cl sl 19 [some (zrf p), some (zrf (g.2.1 x1)), some (.int x2)] [] := by
    intro n19
    induction n19 with
    | zero => intro _ S x1 x2 cl sl _ _ h_x1 hm; exact no_e hm
    | succ n19 ih =>
      intro hf19
      have ih19 := ih (by omega)
      intro S x1 x2 cl sl hc hs h_x1 hm
      have hm : m_leaves_b19 (m_leaves_l19 n19) S x1 x2 = some R := hm
      unfold m_leaves_b19 at hm
      refine zQ.s (fun h => zs_iload_n (i := 2) o dX3_leaves_19 rfl rfl) ?_
      refine zQ.s (fun h => zs_aload_n (i := 0) o dX3_leaves_20 rfl rfl) ?_
      refine zm_getI o fl_X3_198_3 rfl dX3_leaves_21 ?_
      refine zQ.b (fun h => zs_icmp_ge (tgt := 47) o dX3_leaves_24 (by decide)) (fun c => ?_) (fun c => ?_)
      · have hm := if_e1 hm c
        refine zQ.s (fun h => zs_aload_n (i := 0) o dX3_leaves_47 rfl rfl) ?_
        refine zm_getR o fl_X3_74_3 rfl dX3_leaves_48 ?_
        refine zQ.s (fun h => zs_aload_n (i := 0) o dX3_leaves_51 rfl rfl) ?_
        refine zm_getI o fl_X3_198_3 rfl dX3_leaves_52 ?_
        refine zQ.s (fun h => zs_aload_n (i := 1) o dX3_leaves_55 rfl rfl) ?_
        obtain ⟨g1, hm⟩ := gd_e hm
        obtain ⟨S2, e_S2, hm⟩ := lt_e hm
        refine zm_mast o h_x1 dX3_leaves_56 g1 e_S2 ?_
        refine zm_retv o f dX3_leaves_57 (by omega) (by omega) ((so_e hm).trans hR9.symm)
      · have hm := if_e2 hm c
        refine zQ.s (fun h => zs_aload_n (i := 0) o dX3_leaves_27 rfl rfl) ?_
        refine zm_getR o fl_X3_74_3 rfl dX3_leaves_28 ?_
        refine zQ.s (fun h => zs_iload_n (i := 2) o dX3_leaves_31 rfl rfl) ?_
        refine zQ.s (fun h => zs_aload_n (i := 0) o dX3_leaves_32 rfl rfl) ?_
        refine zm_getR o fl_X3_74_3 rfl dX3_leaves_33 ?_
        refine zQ.s (fun h => zs_iload_n (i := 2) o dX3_leaves_36 rfl rfl) ?_
        refine zQ.s (fun h => zs_iconst (v := 1) o dX3_leaves_37 (by decide)) ?_
        refine zQ.s (fun h => zs_iadd o dX3_leaves_38) ?_
        obtain ⟨g3, hm⟩ := gd_e hm
        obtain ⟨r4, e_r4, hm⟩ := lt_e hm
        refine zm_row o dX3_leaves_39 g3 e_r4 (fun h_r4 => ?_)
        obtain ⟨g5, hm⟩ := gd_e hm
        obtain ⟨S6, e_S6, hm⟩ := lt_e hm
        refine zm_mast o h_r4 dX3_leaves_40 g5 e_S6 ?_
        refine zQ.s (fun h => zs_iinc (i := 2) (v := x2 + (1 : Int32)) o dX3_leaves_41 rfl rfl (by decide) (Or.inr (zc2_ref rfl)) (by simp only [List.set_cons_succ, List.set_cons_zero]; rfl)) ?_
        refine zQ.s (fun h => zs_goto (tgt := 19) o dX3_leaves_44 (by decide)) ?_
        exact ih19 _ _ _ _ _ (by omega) (by omega) h_x1 hm
  unfold m_leaves at hm
  refine zQ.s (fun h => zs_aload_n (i := 0) o dX3_leaves_0 rfl rfl) ?_
  refine zQ.s (fun h => zs_dup o dX3_leaves_1 (by first | rfl | exact zrf_cat _)) ?_
  refine zm_getI o fl_X3_198_3 rfl dX3_leaves_2 ?_
  refine zQ.s (fun h => zs_iconst (v := 1) o dX3_leaves_5 (by decide)) ?_
  refine zQ.s (fun h => zs_isub o dX3_leaves_6) ?_
  obtain ⟨S1, e_S1, hm⟩ := lt_e hm
  refine zm_putI o fl_X3_198_3 rfl rfl ⟨rfl, rfl⟩ dX3_leaves_7 e_S1 ?_
  refine zQ.s (fun h => zs_aload_n (i := 0) o dX3_leaves_10 rfl rfl) ?_
  refine zm_getR o fl_X3_74_3 rfl dX3_leaves_11 ?_
  refine zQ.s (fun h => zs_iconst (v := 0) o dX3_leaves_14 (by decide)) ?_
  obtain ⟨g2, hm⟩ := gd_e hm
  obtain ⟨r3, e_r3, hm⟩ := lt_e hm
  refine zm_row o dX3_leaves_15 g2 e_r3 (fun h_r3 => ?_)
  refine zQ.s (fun h => zs_astore_n (i := 1) o dX3_leaves_16 rfl (by decide) (Or.inr (zc2_ref rfl)) (by simp only [List.set_cons_succ, List.set_cons_zero]; rfl)) ?_
  refine zQ.s (fun h => zs_iconst (v := 0) o dX3_leaves_17 (by decide)) ?_
  refine zQ.s (fun h => zs_istore_n (i := 2) o dX3_leaves_18 rfl (by decide) (Or.inr (zc2_ref rfl)) (by simp only [List.set_cons_succ, List.set_cons_zero]; rfl)) ?_
  exact hl19 100 (Nat.le_refl _) _ _ _ _ _ (by omega) (by omega) h_r3 hm

def m_retire_j308 (S : MS) (s1 : Int32) : Option MS :=
  gd (b01 s1) <|
  lt (tS S 37 s1) fun S2 =>
  some S2
def m_retire_j296 (S : MS) (x3 : Int32) : Option MS :=
  if x3 = (18 : Int32) then
    m_retire_j308 S (1 : Int32)
  else
    m_retire_j308 S (0 : Int32)
def m_retire_j269 (S : MS) (x3 : Int32) : Option MS :=
  if x3 = (21 : Int32) then
    lt (tS S 39 (0 : Int32)) fun S1 =>
    lt (tS S1 41 (mS S1 40)) fun S2 =>
    bd (m_goesOn S2 (mS S2 40)) fun y3 =>
    m_retire_j296 y3 x3
  else
    m_retire_j296 S x3
def m_retire_j250 (S : MS) (x1 : Nat) (x2 : Int32) (x3 : Int32) : Option MS :=
  if x3 = (17 : Int32) then
    gd (inb (6 : Int32) 28) <|
    gd (inb (irm x2 (8 : Int32)) 8) <|
    lt (tA S 30 (ix (irm x2 (8 : Int32))) (mB S x1 (ix (6 : Int32)))) fun S3 =>
    m_retire_j269 S3 x3
  else
    m_retire_j269 S x3
def m_retire_j249 (S : MS) (x1 : Nat) (x2 : Int32) (x3 : Int32) (s2 : Int32) (s1 : Int32) : Option MS :=
  gd (inb s1 16) <|
  lt (tA S 29 (ix s1) s2) fun S2 =>
  m_retire_j250 S2 x1 x2 x3
def m_retire_j204 (S : MS) (x1 : Nat) (x2 : Int32) (x3 : Int32) (s0 : Int32) : Option MS :=
  gd (inb (irm x2 (16 : Int32)) 16) <|
  lt (mA S 29 (ix (irm x2 (16 : Int32)))) fun v2 =>
  if s0 = (0 : Int32) then
    m_retire_j249 S x1 x2 x3 (imx (0 : Int32) (v2 - (1 : Int32))) (irm x2 (16 : Int32))
  else
    m_retire_j249 S x1 x2 x3 (imn (3 : Int32) (v2 + (1 : Int32))) (irm x2 (16 : Int32))
def m_retire_j149 (S : MS) (x1 : Nat) (x2 : Int32) (x3 : Int32) : Option MS :=
  gd (inb (7 : Int32) 28) <|
  gd (inb (mB S x1 (ix (7 : Int32))) 24) <|
  lt (mA S 18 (ix (mB S x1 (ix (7 : Int32))))) fun v3 =>
  gd (inb (8 : Int32) 28) <|
  gd (inb (mB S x1 (ix (8 : Int32))) 24) <|
  lt (mA S 18 (ix (mB S x1 (ix (8 : Int32))))) fun v6 =>
  if x3 = (12 : Int32) then
    if v3 = v6 then
      m_retire_j204 S x1 x2 x3 (1 : Int32)
    else
      m_retire_j204 S x1 x2 x3 (0 : Int32)
  else
    if v6 ≤ v3 then
      m_retire_j204 S x1 x2 x3 (0 : Int32)
    else
      m_retire_j204 S x1 x2 x3 (1 : Int32)
def m_retire_j137 (S : MS) (x1 : Nat) (x2 : Int32) (x3 : Int32) : Option MS :=
  if x3 = (12 : Int32) then
    m_retire_j149 S x1 x2 x3
  else
    if x3 = (13 : Int32) then
      m_retire_j149 S x1 x2 x3
    else
      m_retire_j250 S x1 x2 x3
def m_retire_j92 (S : MS) (x1 : Nat) (x2 : Int32) (x3 : Int32) : Option MS :=
  bd (m_hasD x3) fun y1 =>
  if y1 = (0 : Int32) then
    m_retire_j137 S x1 x2 x3
  else
    gd (inb x2 64) <|
    gd (inb (9 : Int32) 28) <|
    gd (inb (mA S 1 (ix x2)) 8) <|
    lt (tA S 17 (ix (mA S 1 (ix x2))) (mB S x1 (ix (9 : Int32)))) fun S5 =>
    gd (inb (10 : Int32) 28) <|
    gd (inb (mS S5 21) 24) <|
    lt (tA S5 20 (ix (mS S5 21)) (mB S5 x1 (ix (10 : Int32)))) fun S8 =>
    lt (tS S8 21 ((mS S8 21) + (1 : Int32))) fun S9 =>
    m_retire_j137 S9 x1 x2 x3
def m_retire_j50 (S : MS) (x1 : Nat) (x2 : Int32) (x3 : Int32) : Option MS :=
  if x3 = (11 : Int32) then
    gd (inb (14 : Int32) 28) <|
    gd (inb (14 : Int32) 28) <|
    gd (inb (mB S x1 (ix (14 : Int32))) 64) <|
    gd (inb (8 : Int32) 28) <|
    gd (inb (mB S x1 (ix (8 : Int32))) 24) <|
    gd (inb (mB S x1 (ix (14 : Int32))) 64) <|
    lt (tA S 15 (ix (mB S x1 (ix (14 : Int32)))) (((mA S 15 (ix (mB S x1 (ix (14 : Int32))))) &&& (-65536 : Int32)) ||| ((mA S 18 (ix (mB S x1 (ix (8 : Int32))))) &&& (65535 : Int32)))) fun S7 =>
    m_retire_j92 S7 x1 x2 x3
  else
    m_retire_j92 S x1 x2 x3
def m_retire (S : MS) (a1 : Nat) : Option MS :=
  gd (inb (0 : Int32) 28) <|
  lt (mB S a1 (ix (0 : Int32))) fun v2 =>
  gd (inb v2 64) <|
  lt (mA S 0 (ix v2)) fun v4 =>
  bd (m_tellsEnd S (0 : Int32) v2 a1) fun y5 =>
  gd (inb (6 : Int32) 28) <|
  lt (tS y5 41 (mB y5 a1 (ix (6 : Int32)))) fun S7 =>
  if v4 = (10 : Int32) then
    gd (inb (14 : Int32) 28) <|
    gd (inb (8 : Int32) 28) <|
    gd (inb (mB S7 a1 (ix (8 : Int32))) 24) <|
    gd (inb (mB S7 a1 (ix (14 : Int32))) 64) <|
    lt (tA S7 15 (ix (mB S7 a1 (ix (14 : Int32)))) (mA S7 18 (ix (mB S7 a1 (ix (8 : Int32)))))) fun S12 =>
    m_retire_j50 S12 a1 v2 v4
  else
    m_retire_j50 S7 a1 v2 v4

set_option maxHeartbeats 40000000 in
theorem M_retire (G : zG) (p : Nat) (g : MG) (S : MS) (a1 : Nat) (h_a1 : a1 < 16) (S9 : MS) (hm : m_retire S a1 = some S9) : zMv G yX3_retire cX3_retire 8 none 3 1 5 p g 0 0 [zrf (g.2.1 a1)] S S9 := by
  intro h0 h hI0
  refine zCo.st [some (zrf p), some (zrf (g.2.1 a1)), none, none, none, none, none, none] rfl rfl (by simp only [zarg_r, zarg_i, zarg_l, zarg_0]; rfl) (fun X o f0 hin hw0 => ?_)
  have f := f0.e
  refine (?_ : zQ (IM h0 p g 0 0 S) G X 0 0 0 [some (zrf p), some (zrf (g.2.1 a1)), none, none, none, none, none, none] []) h hI0 hw0
  clear hI0 hw0
  generalize hR9 : (S9 : MS) = R at hm
  have hj308 : ∀ (S : MS) (s1 : Int32) (cl sl : Nat), cl + (0) ≤ 1 → sl + (0) ≤ 5 → m_retire_j308 S s1 = some R → zQ (IM h0 p g 0 0 S) G X cl sl 308 [none, none, none, none, none, none, none, none] [.int s1, zrf p] := by
    intro S s1 cl sl hc hs hm
    unfold m_retire_j308 at hm
    obtain ⟨g1, hm⟩ := gd_e hm
    obtain ⟨S2, e_S2, hm⟩ := lt_e hm
    refine zm_putI o fl_X3_147_3 rfl rfl (b01_e g1) dX3_retire_308 e_S2 ?_
    refine zm_retv o f dX3_retire_311 (by omega) (by omega) ((so_e hm).trans hR9.symm)
  have hj296 : ∀ (S : MS) (x3 : Int32) (cl sl : Nat), cl + (0) ≤ 1 → sl + (0) ≤ 5 → m_retire_j296 S x3 = some R → zQ (IM h0 p g 0 0 S) G X cl sl 296 [some (zrf p), none, none, some (.int x3), none, none, none, none] [] := by
    intro S x3 cl sl hc hs hm
    unfold m_retire_j296 at hm
    refine zQ.s (fun h => zs_aload_n (i := 0) o dX3_retire_296 rfl rfl) ?_
    refine zQ.s (fun h => zs_iload_n (i := 3) o dX3_retire_297 rfl rfl) ?_
    refine zQ.s (fun h => zs_bipush (v := 18) o dX3_retire_298 (by decide)) ?_
    refine zQ.b (fun h => zs_icmp_ne (tgt := 307) o dX3_retire_300 (by decide)) (fun c => ?_) (fun c => ?_)
    · have hm := if_e2 hm c
      refine zQ.s (fun h => zs_iconst (v := 0) o dX3_retire_307 (by decide)) ?_
      refine zQ.fg (zl_n (zl_n (zl_n (zl_n (zl_n (zl_n (zl_n (zl_n zl_0)))))))) ?_
      exact hj308 _ _ _ _ (by omega) (by omega) hm
    · have hm := if_e1 hm c
      refine zQ.s (fun h => zs_iconst (v := 1) o dX3_retire_303 (by decide)) ?_
      refine zQ.s (fun h => zs_goto (tgt := 308) o dX3_retire_304 (by decide)) ?_
      refine zQ.fg (zl_n (zl_n (zl_n (zl_n (zl_n (zl_n (zl_n (zl_n zl_0)))))))) ?_
      exact hj308 _ _ _ _ (by omega) (by omega) hm
  have hj269 : ∀ (S : MS) (x3 : Int32) (cl sl : Nat), cl + (0) ≤ 1 → sl + (0) ≤ 5 → m_retire_j269 S x3 = some R → zQ (IM h0 p g 0 0 S) G X cl sl 269 [some (zrf p), none, none, some (.int x3), none, none, none, none] [] := by
    intro S x3 cl sl hc hs hm
    unfold m_retire_j269 at hm
    refine zQ.s (fun h => zs_iload_n (i := 3) o dX3_retire_269 rfl rfl) ?_
    refine zQ.s (fun h => zs_bipush (v := 21) o dX3_retire_270 (by decide)) ?_
    refine zQ.b (fun h => zs_icmp_ne (tgt := 296) o dX3_retire_272 (by decide)) (fun c => ?_) (fun c => ?_)
    · have hm := if_e2 hm c
      exact hj296 _ _ _ _ (by omega) (by omega) hm
    · have hm := if_e1 hm c
      refine zQ.s (fun h => zs_aload_n (i := 0) o dX3_retire_275 rfl rfl) ?_
      refine zQ.s (fun h => zs_iconst (v := 0) o dX3_retire_276 (by decide)) ?_
      obtain ⟨S1, e_S1, hm⟩ := lt_e hm
      refine zm_putI o fl_X3_291_3 rfl rfl ⟨rfl, rfl⟩ dX3_retire_277 e_S1 ?_
      refine zQ.s (fun h => zs_aload_n (i := 0) o dX3_retire_280 rfl rfl) ?_
      refine zQ.s (fun h => zs_aload_n (i := 0) o dX3_retire_281 rfl rfl) ?_
      refine zm_getI o fl_X3_288_3 rfl dX3_retire_282 ?_
      obtain ⟨S2, e_S2, hm⟩ := lt_e hm
      refine zm_putI o fl_X3_294_3 rfl rfl ⟨rfl, rfl⟩ dX3_retire_285 e_S2 ?_
      refine zQ.s (fun h => zs_aload_n (i := 0) o dX3_retire_288 rfl rfl) ?_
      refine zQ.s (fun h => zs_aload_n (i := 0) o dX3_retire_289 rfl rfl) ?_
      refine zm_getI o fl_X3_288_3 rfl dX3_retire_290 ?_
      obtain ⟨y3, c_y3, hm⟩ := bd_e hm
      refine zm_Vv o ml_X3_274 (M_goesOn G p g _ _ _ _ _ c_y3) dX3_retire_293 rfl rfl rfl rfl (by omega) (by omega) ?_
      exact hj296 _ _ _ _ (by omega) (by omega) hm
  have hj250 : ∀ (S : MS) (x1 : Nat) (x2 : Int32) (x3 : Int32) (cl sl : Nat), cl + (0) ≤ 1 → sl + (0) ≤ 5 → x1 < 16 → m_retire_j250 S x1 x2 x3 = some R → zQ (IM h0 p g 0 0 S) G X cl sl 250 [some (zrf p), some (zrf (g.2.1 x1)), some (.int x2), some (.int x3), none, none, none, none] [] := by
    intro S x1 x2 x3 cl sl hc hs h_x1 hm
    unfold m_retire_j250 at hm
    refine zQ.s (fun h => zs_iload_n (i := 3) o dX3_retire_250 rfl rfl) ?_
    refine zQ.s (fun h => zs_bipush (v := 17) o dX3_retire_251 (by decide)) ?_
    refine zQ.b (fun h => zs_icmp_ne (tgt := 269) o dX3_retire_253 (by decide)) (fun c => ?_) (fun c => ?_)
    · have hm := if_e2 hm c
      refine zQ.fg (zl_s (zl_n (zl_n (zl_s (zl_n (zl_n (zl_n (zl_n zl_0)))))))) ?_
      exact hj269 _ _ _ _ (by omega) (by omega) hm
    · have hm := if_e1 hm c
      refine zQ.s (fun h => zs_aload_n (i := 0) o dX3_retire_256 rfl rfl) ?_
      refine zm_getR o fl_X3_86_3 rfl dX3_retire_257 ?_
      refine zQ.s (fun h => zs_iload_n (i := 2) o dX3_retire_260 rfl rfl) ?_
      refine zQ.s (fun h => zs_bipush (v := 8) o dX3_retire_261 (by decide)) ?_
      refine zQ.s (fun h => zs_irem o dX3_retire_263 (by decide)) ?_
      refine zQ.s (fun h => zs_aload_n (i := 1) o dX3_retire_264 rfl rfl) ?_
      refine zQ.s (fun h => zs_bipush (v := 6) o dX3_retire_265 (by decide)) ?_
      obtain ⟨g1, hm⟩ := gd_e hm
      refine zm_rald o h_x1 dX3_retire_267 g1 ?_
      obtain ⟨g2, hm⟩ := gd_e hm
      obtain ⟨S3, e_S3, hm⟩ := lt_e hm
      refine zm_iast o rfl dX3_retire_268 g2 e_S3 ?_
      refine zQ.fg (zl_s (zl_n (zl_n (zl_s (zl_n (zl_n (zl_n (zl_n zl_0)))))))) ?_
      exact hj269 _ _ _ _ (by omega) (by omega) hm
  have hj249 : ∀ (S : MS) (x1 : Nat) (x2 : Int32) (x3 : Int32) (s2 : Int32) (s1 : Int32) (cl sl : Nat), cl + (0) ≤ 1 → sl + (0) ≤ 5 → x1 < 16 → m_retire_j249 S x1 x2 x3 s2 s1 = some R → zQ (IM h0 p g 0 0 S) G X cl sl 249 [some (zrf p), some (zrf (g.2.1 x1)), some (.int x2), some (.int x3), none, none, none, none] [.int s2, .int s1, zrf (g.1 29)] := by
    intro S x1 x2 x3 s2 s1 cl sl hc hs h_x1 hm
    unfold m_retire_j249 at hm
    obtain ⟨g1, hm⟩ := gd_e hm
    obtain ⟨S2, e_S2, hm⟩ := lt_e hm
    refine zm_iast o rfl dX3_retire_249 g1 e_S2 ?_
    exact hj250 _ _ _ _ _ _ (by omega) (by omega) h_x1 hm
  have hj204 : ∀ (S : MS) (x1 : Nat) (x2 : Int32) (x3 : Int32) (s0 : Int32) (cl sl : Nat), cl + (0) ≤ 1 → sl + (0) ≤ 5 → x1 < 16 → m_retire_j204 S x1 x2 x3 s0 = some R → zQ (IM h0 p g 0 0 S) G X cl sl 204 [some (zrf p), some (zrf (g.2.1 x1)), some (.int x2), some (.int x3), none, none, none, none] [.int s0] := by
    intro S x1 x2 x3 s0 cl sl hc hs h_x1 hm
    unfold m_retire_j204 at hm
    refine zQ.s (fun h => zs_istore (i := 6) o dX3_retire_204 (by decide) (Or.inr rfl) (by simp only [List.set_cons_succ, List.set_cons_zero]; rfl)) ?_
    refine zQ.s (fun h => zs_aload_n (i := 0) o dX3_retire_206 rfl rfl) ?_
    refine zm_getR o fl_X3_83_3 rfl dX3_retire_207 ?_
    refine zQ.s (fun h => zs_iload_n (i := 2) o dX3_retire_210 rfl rfl) ?_
    refine zQ.s (fun h => zs_bipush (v := 16) o dX3_retire_211 (by decide)) ?_
    refine zQ.s (fun h => zs_irem o dX3_retire_213 (by decide)) ?_
    obtain ⟨g1, hm⟩ := gd_e hm
    refine zm_iald o rfl dX3_retire_214 g1 ?_
    obtain ⟨v2, e_v2, hm⟩ := lt_e hm
    refine zQ.nmi e_v2 ?_
    refine zQ.s (fun h => zs_istore (i := 7) o dX3_retire_215 (by decide) (Or.inr rfl) (by simp only [List.set_cons_succ, List.set_cons_zero]; rfl)) ?_
    refine zQ.s (fun h => zs_aload_n (i := 0) o dX3_retire_217 rfl rfl) ?_
    refine zm_getR o fl_X3_83_3 rfl dX3_retire_218 ?_
    refine zQ.s (fun h => zs_iload_n (i := 2) o dX3_retire_221 rfl rfl) ?_
    refine zQ.s (fun h => zs_bipush (v := 16) o dX3_retire_222 (by decide)) ?_
    refine zQ.s (fun h => zs_irem o dX3_retire_224 (by decide)) ?_
    refine zQ.s (fun h => zs_iload (i := 6) o dX3_retire_225 rfl) ?_
    refine zQ.b (fun h => zs_if_eq (tgt := 241) o dX3_retire_227 (by decide)) (fun c => ?_) (fun c => ?_)
    · have hm := if_e1 hm c
      refine zQ.s (fun h => zs_iconst (v := 0) o dX3_retire_241 (by decide)) ?_
      refine zQ.s (fun h => zs_iload (i := 7) o dX3_retire_242 rfl) ?_
      refine zQ.s (fun h => zs_iconst (v := 1) o dX3_retire_244 (by decide)) ?_
      refine zQ.s (fun h => zs_isub o dX3_retire_245) ?_
      refine zQ.s (fun h => zs_mmax o q2854 q403 q127 q404 rfl rfl (by omega) (by omega) dX3_retire_246) ?_
      refine zQ.fg (zl_s (zl_s (zl_s (zl_s (zl_n (zl_n (zl_n (zl_n zl_0)))))))) ?_
      exact hj249 _ _ _ _ _ _ _ _ (by omega) (by omega) h_x1 hm
    · have hm := if_e2 hm c
      refine zQ.s (fun h => zs_iconst (v := 3) o dX3_retire_230 (by decide)) ?_
      refine zQ.s (fun h => zs_iload (i := 7) o dX3_retire_231 rfl) ?_
      refine zQ.s (fun h => zs_iconst (v := 1) o dX3_retire_233 (by decide)) ?_
      refine zQ.s (fun h => zs_iadd o dX3_retire_234) ?_
      refine zQ.s (fun h => zs_mmin o q2813 q421 q127 q422 rfl rfl (by omega) (by omega) dX3_retire_235) ?_
      refine zQ.s (fun h => zs_goto (tgt := 249) o dX3_retire_238 (by decide)) ?_
      refine zQ.fg (zl_s (zl_s (zl_s (zl_s (zl_n (zl_n (zl_n (zl_n zl_0)))))))) ?_
      exact hj249 _ _ _ _ _ _ _ _ (by omega) (by omega) h_x1 hm
  have hj149 : ∀ (S : MS) (x1 : Nat) (x2 : Int32) (x3 : Int32) (cl sl : Nat), cl + (0) ≤ 1 → sl + (0) ≤ 5 → x1 < 16 → m_retire_j149 S x1 x2 x3 = some R → zQ (IM h0 p g 0 0 S) G X cl sl 149 [some (zrf p), some (zrf (g.2.1 x1)), some (.int x2), some (.int x3), none, none, none, none] [] := by
    intro S x1 x2 x3 cl sl hc hs h_x1 hm
    unfold m_retire_j149 at hm
    refine zQ.s (fun h => zs_aload_n (i := 0) o dX3_retire_149 rfl rfl) ?_
    refine zm_getR o fl_X3_62_3 rfl dX3_retire_150 ?_
    refine zQ.s (fun h => zs_aload_n (i := 1) o dX3_retire_153 rfl rfl) ?_
    refine zQ.s (fun h => zs_bipush (v := 7) o dX3_retire_154 (by decide)) ?_
    obtain ⟨g1, hm⟩ := gd_e hm
    refine zm_rald o h_x1 dX3_retire_156 g1 ?_
    obtain ⟨g2, hm⟩ := gd_e hm
    refine zm_iald o rfl dX3_retire_157 g2 ?_
    obtain ⟨v3, e_v3, hm⟩ := lt_e hm
    refine zQ.nmi e_v3 ?_
    refine zQ.s (fun h => zs_istore (i := 4) o dX3_retire_158 (by decide) (Or.inr rfl) (by simp only [List.set_cons_succ, List.set_cons_zero]; rfl)) ?_
    refine zQ.s (fun h => zs_aload_n (i := 0) o dX3_retire_160 rfl rfl) ?_
    refine zm_getR o fl_X3_62_3 rfl dX3_retire_161 ?_
    refine zQ.s (fun h => zs_aload_n (i := 1) o dX3_retire_164 rfl rfl) ?_
    refine zQ.s (fun h => zs_bipush (v := 8) o dX3_retire_165 (by decide)) ?_
    obtain ⟨g4, hm⟩ := gd_e hm
    refine zm_rald o h_x1 dX3_retire_167 g4 ?_
    obtain ⟨g5, hm⟩ := gd_e hm
    refine zm_iald o rfl dX3_retire_168 g5 ?_
    obtain ⟨v6, e_v6, hm⟩ := lt_e hm
    refine zQ.nmi e_v6 ?_
    refine zQ.s (fun h => zs_istore (i := 5) o dX3_retire_169 (by decide) (Or.inr rfl) (by simp only [List.set_cons_succ, List.set_cons_zero]; rfl)) ?_
    refine zQ.s (fun h => zs_iload_n (i := 3) o dX3_retire_171 rfl rfl) ?_
    refine zQ.s (fun h => zs_bipush (v := 12) o dX3_retire_172 (by decide)) ?_
    refine zQ.b (fun h => zs_icmp_ne (tgt := 192) o dX3_retire_174 (by decide)) (fun c => ?_) (fun c => ?_)
    · have hm := if_e2 hm c
      refine zQ.s (fun h => zs_iload (i := 4) o dX3_retire_192 rfl) ?_
      refine zQ.s (fun h => zs_iload (i := 5) o dX3_retire_194 rfl) ?_
      refine zQ.b (fun h => zs_icmp_ge (tgt := 203) o dX3_retire_196 (by decide)) (fun c => ?_) (fun c => ?_)
      · have hm := if_e1 hm c
        refine zQ.s (fun h => zs_iconst (v := 0) o dX3_retire_203 (by decide)) ?_
        refine zQ.fg (zl_s (zl_s (zl_s (zl_s (zl_n (zl_n (zl_n (zl_n zl_0)))))))) ?_
        exact hj204 _ _ _ _ _ _ _ (by omega) (by omega) h_x1 hm
      · have hm := if_e2 hm c
        refine zQ.s (fun h => zs_iconst (v := 1) o dX3_retire_199 (by decide)) ?_
        refine zQ.s (fun h => zs_goto (tgt := 204) o dX3_retire_200 (by decide)) ?_
        refine zQ.fg (zl_s (zl_s (zl_s (zl_s (zl_n (zl_n (zl_n (zl_n zl_0)))))))) ?_
        exact hj204 _ _ _ _ _ _ _ (by omega) (by omega) h_x1 hm
    · have hm := if_e1 hm c
      refine zQ.s (fun h => zs_iload (i := 4) o dX3_retire_177 rfl) ?_
      refine zQ.s (fun h => zs_iload (i := 5) o dX3_retire_179 rfl) ?_
      refine zQ.b (fun h => zs_icmp_ne (tgt := 188) o dX3_retire_181 (by decide)) (fun c => ?_) (fun c => ?_)
      · have hm := if_e2 hm c
        refine zQ.s (fun h => zs_iconst (v := 0) o dX3_retire_188 (by decide)) ?_
        refine zQ.s (fun h => zs_goto (tgt := 204) o dX3_retire_189 (by decide)) ?_
        refine zQ.fg (zl_s (zl_s (zl_s (zl_s (zl_n (zl_n (zl_n (zl_n zl_0)))))))) ?_
        exact hj204 _ _ _ _ _ _ _ (by omega) (by omega) h_x1 hm
      · have hm := if_e1 hm c
        refine zQ.s (fun h => zs_iconst (v := 1) o dX3_retire_184 (by decide)) ?_
        refine zQ.s (fun h => zs_goto (tgt := 204) o dX3_retire_185 (by decide)) ?_
        refine zQ.fg (zl_s (zl_s (zl_s (zl_s (zl_n (zl_n (zl_n (zl_n zl_0)))))))) ?_
        exact hj204 _ _ _ _ _ _ _ (by omega) (by omega) h_x1 hm
  have hj137 : ∀ (S : MS) (x1 : Nat) (x2 : Int32) (x3 : Int32) (cl sl : Nat), cl + (0) ≤ 1 → sl + (0) ≤ 5 → x1 < 16 → m_retire_j137 S x1 x2 x3 = some R → zQ (IM h0 p g 0 0 S) G X cl sl 137 [some (zrf p), some (zrf (g.2.1 x1)), some (.int x2), some (.int x3), none, none, none, none] [] := by
    intro S x1 x2 x3 cl sl hc hs h_x1 hm
    unfold m_retire_j137 at hm
    refine zQ.s (fun h => zs_iload_n (i := 3) o dX3_retire_137 rfl rfl) ?_
    refine zQ.s (fun h => zs_bipush (v := 12) o dX3_retire_138 (by decide)) ?_
    refine zQ.b (fun h => zs_icmp_eq (tgt := 149) o dX3_retire_140 (by decide)) (fun c => ?_) (fun c => ?_)
    · have hm := if_e1 hm c
      exact hj149 _ _ _ _ _ _ (by omega) (by omega) h_x1 hm
    · have hm := if_e2 hm c
      refine zQ.s (fun h => zs_iload_n (i := 3) o dX3_retire_143 rfl rfl) ?_
      refine zQ.s (fun h => zs_bipush (v := 13) o dX3_retire_144 (by decide)) ?_
      refine zQ.b (fun h => zs_icmp_ne (tgt := 250) o dX3_retire_146 (by decide)) (fun c => ?_) (fun c => ?_)
      · have hm := if_e2 hm c
        exact hj250 _ _ _ _ _ _ (by omega) (by omega) h_x1 hm
      · have hm := if_e1 hm c
        exact hj149 _ _ _ _ _ _ (by omega) (by omega) h_x1 hm
  have hj92 : ∀ (S : MS) (x1 : Nat) (x2 : Int32) (x3 : Int32) (cl sl : Nat), cl + (0) ≤ 1 → sl + (0) ≤ 5 → x1 < 16 → m_retire_j92 S x1 x2 x3 = some R → zQ (IM h0 p g 0 0 S) G X cl sl 92 [some (zrf p), some (zrf (g.2.1 x1)), some (.int x2), some (.int x3), none, none, none, none] [] := by
    intro S x1 x2 x3 cl sl hc hs h_x1 hm
    unfold m_retire_j92 at hm
    refine zQ.s (fun h => zs_iload_n (i := 3) o dX3_retire_92 rfl rfl) ?_
    obtain ⟨y1, c_y1, hm⟩ := bd_e hm
    refine zQ_Si o ml_X3_209 (M_hasD G _ _ c_y1) dX3_retire_93 rfl rfl rfl rfl (by omega) (by omega) ?_
    refine zQ.b (fun h => zs_if_eq (tgt := 137) o dX3_retire_96 (by decide)) (fun c => ?_) (fun c => ?_)
    · have hm := if_e1 hm c
      exact hj137 _ _ _ _ _ _ (by omega) (by omega) h_x1 hm
    · have hm := if_e2 hm c
      refine zQ.s (fun h => zs_aload_n (i := 0) o dX3_retire_99 rfl rfl) ?_
      refine zm_getR o fl_X3_59_3 rfl dX3_retire_100 ?_
      refine zQ.s (fun h => zs_aload_n (i := 0) o dX3_retire_103 rfl rfl) ?_
      refine zm_getR o fl_X3_13_3 rfl dX3_retire_104 ?_
      refine zQ.s (fun h => zs_iload_n (i := 2) o dX3_retire_107 rfl rfl) ?_
      obtain ⟨g2, hm⟩ := gd_e hm
      refine zm_iald o rfl dX3_retire_108 g2 ?_
      refine zQ.s (fun h => zs_aload_n (i := 1) o dX3_retire_109 rfl rfl) ?_
      refine zQ.s (fun h => zs_bipush (v := 9) o dX3_retire_110 (by decide)) ?_
      obtain ⟨g3, hm⟩ := gd_e hm
      refine zm_rald o h_x1 dX3_retire_112 g3 ?_
      obtain ⟨g4, hm⟩ := gd_e hm
      obtain ⟨S5, e_S5, hm⟩ := lt_e hm
      refine zm_iast o rfl dX3_retire_113 g4 e_S5 ?_
      refine zQ.s (fun h => zs_aload_n (i := 0) o dX3_retire_114 rfl rfl) ?_
      refine zm_getR o fl_X3_69_3 rfl dX3_retire_115 ?_
      refine zQ.s (fun h => zs_aload_n (i := 0) o dX3_retire_118 rfl rfl) ?_
      refine zm_getI o fl_X3_126_3 rfl dX3_retire_119 ?_
      refine zQ.s (fun h => zs_aload_n (i := 1) o dX3_retire_122 rfl rfl) ?_
      refine zQ.s (fun h => zs_bipush (v := 10) o dX3_retire_123 (by decide)) ?_
      obtain ⟨g6, hm⟩ := gd_e hm
      refine zm_rald o h_x1 dX3_retire_125 g6 ?_
      obtain ⟨g7, hm⟩ := gd_e hm
      obtain ⟨S8, e_S8, hm⟩ := lt_e hm
      refine zm_iast o rfl dX3_retire_126 g7 e_S8 ?_
      refine zQ.s (fun h => zs_aload_n (i := 0) o dX3_retire_127 rfl rfl) ?_
      refine zQ.s (fun h => zs_dup o dX3_retire_128 (by first | rfl | exact zrf_cat _)) ?_
      refine zm_getI o fl_X3_126_3 rfl dX3_retire_129 ?_
      refine zQ.s (fun h => zs_iconst (v := 1) o dX3_retire_132 (by decide)) ?_
      refine zQ.s (fun h => zs_iadd o dX3_retire_133) ?_
      obtain ⟨S9, e_S9, hm⟩ := lt_e hm
      refine zm_putI o fl_X3_126_3 rfl rfl ⟨rfl, rfl⟩ dX3_retire_134 e_S9 ?_
      exact hj137 _ _ _ _ _ _ (by omega) (by omega) h_x1 hm
  have hj50 : ∀ (S : MS) (x1 : Nat) (x2 : Int32) (x3 : Int32) (cl sl : Nat), cl + (0) ≤ 1 → sl + (0) ≤ 5 → x1 < 16 → m_retire_j50 S x1 x2 x3 = some R → zQ (IM h0 p g 0 0 S) G X cl sl 50 [some (zrf p), some (zrf (g.2.1 x1)), some (.int x2), some (.int x3), none, none, none, none] [] := by
    intro S x1 x2 x3 cl sl hc hs h_x1 hm
    unfold m_retire_j50 at hm
    refine zQ.s (fun h => zs_iload_n (i := 3) o dX3_retire_50 rfl rfl) ?_
    refine zQ.s (fun h => zs_bipush (v := 11) o dX3_retire_51 (by decide)) ?_
    refine zQ.b (fun h => zs_icmp_ne (tgt := 92) o dX3_retire_53 (by decide)) (fun c => ?_) (fun c => ?_)
    · have hm := if_e2 hm c
      exact hj92 _ _ _ _ _ _ (by omega) (by omega) h_x1 hm
    · have hm := if_e1 hm c
      refine zQ.s (fun h => zs_aload_n (i := 0) o dX3_retire_56 rfl rfl) ?_
      refine zm_getR o fl_X3_53_3 rfl dX3_retire_57 ?_
      refine zQ.s (fun h => zs_aload_n (i := 1) o dX3_retire_60 rfl rfl) ?_
      refine zQ.s (fun h => zs_bipush (v := 14) o dX3_retire_61 (by decide)) ?_
      obtain ⟨g1, hm⟩ := gd_e hm
      refine zm_rald o h_x1 dX3_retire_63 g1 ?_
      refine zQ.s (fun h => zs_aload_n (i := 0) o dX3_retire_64 rfl rfl) ?_
      refine zm_getR o fl_X3_53_3 rfl dX3_retire_65 ?_
      refine zQ.s (fun h => zs_aload_n (i := 1) o dX3_retire_68 rfl rfl) ?_
      refine zQ.s (fun h => zs_bipush (v := 14) o dX3_retire_69 (by decide)) ?_
      obtain ⟨g2, hm⟩ := gd_e hm
      refine zm_rald o h_x1 dX3_retire_71 g2 ?_
      obtain ⟨g3, hm⟩ := gd_e hm
      refine zm_iald o rfl dX3_retire_72 g3 ?_
      refine zQ.s (fun h => zs_ldcw o q2852 dX3_retire_73) ?_
      refine zQ.s (fun h => zs_iand o dX3_retire_76) ?_
      refine zQ.s (fun h => zs_aload_n (i := 0) o dX3_retire_77 rfl rfl) ?_
      refine zm_getR o fl_X3_62_3 rfl dX3_retire_78 ?_
      refine zQ.s (fun h => zs_aload_n (i := 1) o dX3_retire_81 rfl rfl) ?_
      refine zQ.s (fun h => zs_bipush (v := 8) o dX3_retire_82 (by decide)) ?_
      obtain ⟨g4, hm⟩ := gd_e hm
      refine zm_rald o h_x1 dX3_retire_84 g4 ?_
      obtain ⟨g5, hm⟩ := gd_e hm
      refine zm_iald o rfl dX3_retire_85 g5 ?_
      refine zQ.s (fun h => zs_ldcw o q2853 dX3_retire_86) ?_
      refine zQ.s (fun h => zs_iand o dX3_retire_89) ?_
      refine zQ.s (fun h => zs_ior o dX3_retire_90) ?_
      obtain ⟨g6, hm⟩ := gd_e hm
      obtain ⟨S7, e_S7, hm⟩ := lt_e hm
      refine zm_iast o rfl dX3_retire_91 g6 e_S7 ?_
      exact hj92 _ _ _ _ _ _ (by omega) (by omega) h_x1 hm
  unfold m_retire at hm
  refine zQ.s (fun h => zs_aload_n (i := 1) o dX3_retire_0 rfl rfl) ?_
  refine zQ.s (fun h => zs_iconst (v := 0) o dX3_retire_1 (by decide)) ?_
  obtain ⟨g1, hm⟩ := gd_e hm
  refine zm_rald o h_a1 dX3_retire_2 g1 ?_
  obtain ⟨v2, e_v2, hm⟩ := lt_e hm
  refine zQ.nmi e_v2 ?_
  refine zQ.s (fun h => zs_istore_n (i := 2) o dX3_retire_3 rfl (by decide) (Or.inr (zc2_ref rfl)) (by simp only [List.set_cons_succ, List.set_cons_zero]; rfl)) ?_
  refine zQ.s (fun h => zs_aload_n (i := 0) o dX3_retire_4 rfl rfl) ?_
  refine zm_getR o fl_X3_9_3 rfl dX3_retire_5 ?_
  refine zQ.s (fun h => zs_iload_n (i := 2) o dX3_retire_8 rfl rfl) ?_
  obtain ⟨g3, hm⟩ := gd_e hm
  refine zm_iald o rfl dX3_retire_9 g3 ?_
  obtain ⟨v4, e_v4, hm⟩ := lt_e hm
  refine zQ.nmi e_v4 ?_
  refine zQ.s (fun h => zs_istore_n (i := 3) o dX3_retire_10 rfl (by decide) (Or.inr rfl) (by simp only [List.set_cons_succ, List.set_cons_zero]; rfl)) ?_
  refine zQ.s (fun h => zs_aload_n (i := 0) o dX3_retire_11 rfl rfl) ?_
  refine zQ.s (fun h => zs_iconst (v := 0) o dX3_retire_12 (by decide)) ?_
  refine zQ.s (fun h => zs_iload_n (i := 2) o dX3_retire_13 rfl rfl) ?_
  refine zQ.s (fun h => zs_aload_n (i := 1) o dX3_retire_14 rfl rfl) ?_
  obtain ⟨y5, c_y5, hm⟩ := bd_e hm
  refine zm_Vv o ml_X3_297 (M_tellsEnd G p g _ _ _ _ h_a1 _ c_y5) dX3_retire_15 rfl rfl rfl rfl (by omega) (by omega) ?_
  refine zQ.s (fun h => zs_aload_n (i := 0) o dX3_retire_18 rfl rfl) ?_
  refine zQ.s (fun h => zs_aload_n (i := 1) o dX3_retire_19 rfl rfl) ?_
  refine zQ.s (fun h => zs_bipush (v := 6) o dX3_retire_20 (by decide)) ?_
  obtain ⟨g6, hm⟩ := gd_e hm
  refine zm_rald o h_a1 dX3_retire_22 g6 ?_
  obtain ⟨S7, e_S7, hm⟩ := lt_e hm
  refine zm_putI o fl_X3_294_3 rfl rfl ⟨rfl, rfl⟩ dX3_retire_23 e_S7 ?_
  refine zQ.s (fun h => zs_iload_n (i := 3) o dX3_retire_26 rfl rfl) ?_
  refine zQ.s (fun h => zs_bipush (v := 10) o dX3_retire_27 (by decide)) ?_
  refine zQ.b (fun h => zs_icmp_ne (tgt := 50) o dX3_retire_29 (by decide)) (fun c => ?_) (fun c => ?_)
  · have hm := if_e2 hm c
    exact hj50 _ _ _ _ _ _ (by omega) (by omega) h_a1 hm
  · have hm := if_e1 hm c
    refine zQ.s (fun h => zs_aload_n (i := 0) o dX3_retire_32 rfl rfl) ?_
    refine zm_getR o fl_X3_53_3 rfl dX3_retire_33 ?_
    refine zQ.s (fun h => zs_aload_n (i := 1) o dX3_retire_36 rfl rfl) ?_
    refine zQ.s (fun h => zs_bipush (v := 14) o dX3_retire_37 (by decide)) ?_
    obtain ⟨g8, hm⟩ := gd_e hm
    refine zm_rald o h_a1 dX3_retire_39 g8 ?_
    refine zQ.s (fun h => zs_aload_n (i := 0) o dX3_retire_40 rfl rfl) ?_
    refine zm_getR o fl_X3_62_3 rfl dX3_retire_41 ?_
    refine zQ.s (fun h => zs_aload_n (i := 1) o dX3_retire_44 rfl rfl) ?_
    refine zQ.s (fun h => zs_bipush (v := 8) o dX3_retire_45 (by decide)) ?_
    obtain ⟨g9, hm⟩ := gd_e hm
    refine zm_rald o h_a1 dX3_retire_47 g9 ?_
    obtain ⟨g10, hm⟩ := gd_e hm
    refine zm_iald o rfl dX3_retire_48 g10 ?_
    obtain ⟨g11, hm⟩ := gd_e hm
    obtain ⟨S12, e_S12, hm⟩ := lt_e hm
    refine zm_iast o rfl dX3_retire_49 g11 e_S12 ?_
    exact hj50 _ _ _ _ _ _ (by omega) (by omega) h_a1 hm

def m_loses_j21 (S : MS) : Option MS :=
  some S
def m_loses (S : MS) (a1 : Int32) : Option MS :=
  bd (m_reason a1) fun y1 =>
  if y1 = (-1 : Int32) then
    m_loses_j21 S
  else
    bd (m_reason a1) fun y2 =>
    gd (inb y2 8) <|
    gd (inb y2 8) <|
    lt (tA S 47 (ix y2) ((mA S 47 (ix y2)) + (1 : Int32))) fun S5 =>
    m_loses_j21 S5

set_option maxHeartbeats 40000000 in
theorem M_loses (G : zG) (p : Nat) (g : MG) (q n : Nat) (S : MS) (a1 : Int32) (S9 : MS) (hm : m_loses S a1 = some S9) : zMv G yX3_loses cX3_loses 2 none 1 0 0 p g q n [.int a1] S S9 := by
  intro h0 h hI0
  refine zCo.st [some (zrf p), some (.int a1)] rfl rfl (by simp only [zarg_r, zarg_i, zarg_l, zarg_0]; rfl) (fun X o f0 hin hw0 => ?_)
  have f := f0.e
  refine (?_ : zQ (IM h0 p g q n S) G X 0 0 0 [some (zrf p), some (.int a1)] []) h hI0 hw0
  clear hI0 hw0
  generalize hR9 : (S9 : MS) = R at hm
  have hj21 : ∀ (S : MS) (cl sl : Nat), cl + (0) ≤ 0 → sl + (0) ≤ 0 → m_loses_j21 S = some R → zQ (IM h0 p g q n S) G X cl sl 21 [none, none] [] := by
    intro S cl sl hc hs hm
    unfold m_loses_j21 at hm
    refine zm_retv o f dX3_loses_21 (by omega) (by omega) ((so_e hm).trans hR9.symm)
  unfold m_loses at hm
  refine zQ.s (fun h => zs_iload_n (i := 1) o dX3_loses_0 rfl rfl) ?_
  obtain ⟨y1, c_y1, hm⟩ := bd_e hm
  refine zQ_Si o ml_X3_324 (M_reason G _ _ c_y1) dX3_loses_1 rfl rfl rfl rfl (by omega) (by omega) ?_
  refine zQ.s (fun h => zs_iconst (v := -1) o dX3_loses_4 (by decide)) ?_
  refine zQ.b (fun h => zs_icmp_eq (tgt := 21) o dX3_loses_5 (by decide)) (fun c => ?_) (fun c => ?_)
  · have hm := if_e1 hm c
    refine zQ.fg (zl_n (zl_n zl_0)) ?_
    exact hj21 _ _ _ (by omega) (by omega) hm
  · have hm := if_e2 hm c
    refine zQ.s (fun h => zs_aload_n (i := 0) o dX3_loses_8 rfl rfl) ?_
    refine zm_getR o fl_X3_111_3 rfl dX3_loses_9 ?_
    refine zQ.s (fun h => zs_iload_n (i := 1) o dX3_loses_12 rfl rfl) ?_
    obtain ⟨y2, c_y2, hm⟩ := bd_e hm
    refine zQ_Si o ml_X3_324 (M_reason G _ _ c_y2) dX3_loses_13 rfl rfl rfl rfl (by omega) (by omega) ?_
    refine zQ.s (fun h => zs_dup2_11 o dX3_loses_16 (by first | rfl | exact zrf_cat _) (by first | rfl | exact zrf_cat _)) ?_
    obtain ⟨g3, hm⟩ := gd_e hm
    refine zm_iald o rfl dX3_loses_17 g3 ?_
    refine zQ.s (fun h => zs_iconst (v := 1) o dX3_loses_18 (by decide)) ?_
    refine zQ.s (fun h => zs_iadd o dX3_loses_19) ?_
    obtain ⟨g4, hm⟩ := gd_e hm
    obtain ⟨S5, e_S5, hm⟩ := lt_e hm
    refine zm_iast o rfl dX3_loses_20 g4 e_S5 ?_
    refine zQ.fg (zl_n (zl_n zl_0)) ?_
    exact hj21 _ _ _ (by omega) (by omega) hm

def m_retires_j188 (S : MS) (s1 : Int32) : Option MS :=
  bd (m_loses S s1) fun y1 =>
  some y1
def m_retires_j204 (k61 : MS → Int32 → Int32 → Option MS) (S : MS) (x1 : Int32) (x2 : Int32) : Option MS :=
  k61 S x1 x2
def m_retires_j192 (k61 : MS → Int32 → Int32 → Option MS) (S : MS) (x1 : Int32) (x2 : Int32) (x3 : Nat) : Option MS :=
  bd (m_leaves S) fun y1 =>
  bd (m_retire y1 x3) fun y2 =>
  m_retires_j204 k61 y2 (x1 + (1 : Int32)) x2
def m_retires_j137 (k61 : MS → Int32 → Int32 → Option MS) (S : MS) (x1 : Int32) (x2 : Int32) (x3 : Nat) (x4 : Int32) (s0 : Int32) : Option MS :=
  if s0 ≤ (0 : Int32) then
    bd (m_isStore x4) fun y1 =>
    if y1 = (0 : Int32) then
      m_retires_j192 k61 S x1 x2 x3
    else
      gd (inb (8 : Int32) 28) <|
      gd (inb (mB S x3 (ix (8 : Int32))) 24) <|
      if (mA S 19 (ix (mB S x3 (ix (8 : Int32))))) = (0 : Int32) then
        if x1 = (0 : Int32) then
          m_retires_j188 S (100 : Int32)
        else
          m_retires_j188 S (45 : Int32)
      else
        m_retires_j192 k61 S x1 x2 x3
  else
    bd (m_traps S x3 s0) fun y4 =>
    m_retires_j204 k61 y4 x1 (1 : Int32)
def m_retires_j133 (k61 : MS → Int32 → Int32 → Option MS) (S : MS) (x1 : Int32) (x2 : Int32) (x3 : Nat) (x4 : Int32) : Option MS :=
  gd (inb (13 : Int32) 28) <|
  m_retires_j137 k61 S x1 x2 x3 x4 (mB S x3 (ix (13 : Int32)))
def m_retires_j246 (S : MS) : Option MS :=
  some S
def m_retires_j243 (S : MS) (s1 : Int32) : Option MS :=
  bd (m_loses S s1) fun y1 =>
  m_retires_j246 y1
def m_retires_j207 (S : MS) (x1 : Int32) (x2 : Int32) : Option MS :=
  if x1 = (0 : Int32) then
    if x2 = (0 : Int32) then
      if (mS S 23) = (0 : Int32) then
        m_retires_j243 S (102 : Int32)
      else
        gd (inb (0 : Int32) 16) <|
        lt (mM S (ix (0 : Int32))) fun r2 =>
        gd (inb (11 : Int32) 28) <|
        m_retires_j243 S (((mB S r2 (ix (11 : Int32))).toUInt32 % 65536).toInt32)
    else
      m_retires_j243 S (116 : Int32)
  else
    m_retires_j246 S
def m_retires_b61 (k61 : MS → Int32 → Int32 → Option MS) (S : MS) (x1 : Int32) (x2 : Int32) : Option MS :=
  if (mS S 6) ≤ x1 then
    m_retires_j207 S x1 x2
  else
    if x2 = (0 : Int32) then
      if (mS S 37) = (0 : Int32) then
        if (mS S 23) ≤ (0 : Int32) then
          m_retires_j207 S x1 x2
        else
          gd (inb (0 : Int32) 16) <|
          lt (mM S (ix (0 : Int32))) fun r2 =>
          gd (inb (11 : Int32) 28) <|
          if (mB S r2 (ix (11 : Int32))) = (101 : Int32) then
            gd (inb (0 : Int32) 16) <|
            lt (mM S (ix (0 : Int32))) fun r5 =>
            bd (m_codeOf S r5) fun y6 =>
            if y6.2 = (21 : Int32) then
              if (mS y6.1 39) = (0 : Int32) then
                m_retires_j137 k61 y6.1 x1 x2 r5 y6.2 (5 : Int32)
              else
                m_retires_j133 k61 y6.1 x1 x2 r5 y6.2
            else
              m_retires_j133 k61 y6.1 x1 x2 r5 y6.2
          else
            m_retires_j207 S x1 x2
      else
        m_retires_j207 S x1 x2
    else
      m_retires_j207 S x1 x2
def m_retires_l61 : Nat → MS → Int32 → Int32 → Option MS
  | 0 => fun _ _ _ => none
  | n + 1 => m_retires_b61 (m_retires_l61 n)
def m_retires_j57 (S : MS) : Option MS :=
  m_retires_l61 5 S (0 : Int32) (0 : Int32)
def m_retires (S : MS) : Option MS :=
  if (mS S 38) = (0 : Int32) then
    m_retires_j57 S
  else
    if (mS S 39) = (0 : Int32) then
      if (mS S 11) = (-1 : Int32) then
        m_retires_j57 S
      else
        lt (tS S 38 (0 : Int32)) fun S1 =>
        bd (m_tellsEndN S1 (9 : Int32) (mS S1 41)) fun y2 =>
        bd (m_handles y2 (mS y2 41) (mS y2 11)) fun y3 =>
        bd (m_loses y3 (105 : Int32)) fun y4 =>
        some y4
    else
      m_retires_j57 S

set_option maxHeartbeats 40000000 in
theorem M_retires (G : zG) (p : Nat) (g : MG) (S : MS) (S9 : MS) (hm : m_retires S = some S9) : zMv G yX3_retires cX3_retires 6 none 5 5 25 p g 0 0 [] S S9 := by
  intro h0 h hI0
  refine zCo.st [some (zrf p), none, none, none, none, none] rfl rfl (by simp only [zarg_r, zarg_i, zarg_l, zarg_0]; rfl) (fun X o f0 hin hw0 => ?_)
  have f := f0.e
  refine (?_ : zQ (IM h0 p g 0 0 S) G X 0 0 0 [some (zrf p), none, none, none, none, none] []) h hI0 hw0
  clear hI0 hw0
  generalize hR9 : (S9 : MS) = R at hm
  have hj246 : ∀ (S : MS) (cl sl : Nat), cl + (0) ≤ 5 → sl + (0) ≤ 25 → m_retires_j246 S = some R → zQ (IM h0 p g 0 0 S) G X cl sl 246 [none, none, none, none, none, none] [] := by
    intro S cl sl hc hs hm
    unfold m_retires_j246 at hm
    refine zm_retv o f dX3_retires_246 (by omega) (by omega) ((so_e hm).trans hR9.symm)
  have hj243 : ∀ (S : MS) (s1 : Int32) (cl sl : Nat), cl + (0) ≤ 5 → sl + (0) ≤ 25 → m_retires_j243 S s1 = some R → zQ (IM h0 p g 0 0 S) G X cl sl 243 [none, none, none, none, none, none] [.int s1, zrf p] := by
    intro S s1 cl sl hc hs hm
    unfold m_retires_j243 at hm
    obtain ⟨y1, c_y1, hm⟩ := bd_e hm
    refine zm_Vv o ml_X3_310 (M_loses G p g _ _ _ _ _ c_y1) dX3_retires_243 rfl rfl rfl rfl (by omega) (by omega) ?_
    exact hj246 _ _ _ (by omega) (by omega) hm
  have hj207 : ∀ (S : MS) (x1 : Int32) (x2 : Int32) (cl sl : Nat), cl + (0) ≤ 5 → sl + (0) ≤ 25 → m_retires_j207 S x1 x2 = some R → zQ (IM h0 p g 0 0 S) G X cl sl 207 [some (zrf p), some (.int x1), some (.int x2), none, none, none] [] := by
    intro S x1 x2 cl sl hc hs hm
    unfold m_retires_j207 at hm
    refine zQ.s (fun h => zs_iload_n (i := 1) o dX3_retires_207 rfl rfl) ?_
    refine zQ.b (fun h => zs_if_ne (tgt := 246) o dX3_retires_208 (by decide)) (fun c => ?_) (fun c => ?_)
    · have hm := if_e2 hm c
      refine zQ.fg (zl_n (zl_n (zl_n (zl_n (zl_n (zl_n zl_0)))))) ?_
      exact hj246 _ _ _ (by omega) (by omega) hm
    · have hm := if_e1 hm c
      refine zQ.s (fun h => zs_aload_n (i := 0) o dX3_retires_211 rfl rfl) ?_
      refine zQ.s (fun h => zs_iload_n (i := 2) o dX3_retires_212 rfl rfl) ?_
      refine zQ.b (fun h => zs_if_eq (tgt := 221) o dX3_retires_213 (by decide)) (fun c => ?_) (fun c => ?_)
      · have hm := if_e1 hm c
        refine zQ.s (fun h => zs_aload_n (i := 0) o dX3_retires_221 rfl rfl) ?_
        refine zm_getI o fl_X3_198_3 rfl dX3_retires_222 ?_
        refine zQ.b (fun h => zs_if_ne (tgt := 233) o dX3_retires_225 (by decide)) (fun c => ?_) (fun c => ?_)
        · have hm := if_e2 hm c
          refine zQ.s (fun h => zs_aload_n (i := 0) o dX3_retires_233 rfl rfl) ?_
          refine zm_getR o fl_X3_74_3 rfl dX3_retires_234 ?_
          refine zQ.s (fun h => zs_iconst (v := 0) o dX3_retires_237 (by decide)) ?_
          obtain ⟨g1, hm⟩ := gd_e hm
          obtain ⟨r2, e_r2, hm⟩ := lt_e hm
          refine zm_row o dX3_retires_238 g1 e_r2 (fun h_r2 => ?_)
          refine zQ.s (fun h => zs_bipush (v := 11) o dX3_retires_239 (by decide)) ?_
          obtain ⟨g3, hm⟩ := gd_e hm
          refine zm_rald o h_r2 dX3_retires_241 g3 ?_
          refine zQ.s (fun h => zs_i2c o dX3_retires_242 rfl) ?_
          refine zQ.fg (zl_n (zl_n (zl_n (zl_n (zl_n (zl_n zl_0)))))) ?_
          exact hj243 _ _ _ _ (by omega) (by omega) hm
        · have hm := if_e1 hm c
          refine zQ.s (fun h => zs_bipush (v := 102) o dX3_retires_228 (by decide)) ?_
          refine zQ.s (fun h => zs_goto (tgt := 243) o dX3_retires_230 (by decide)) ?_
          refine zQ.fg (zl_n (zl_n (zl_n (zl_n (zl_n (zl_n zl_0)))))) ?_
          exact hj243 _ _ _ _ (by omega) (by omega) hm
      · have hm := if_e2 hm c
        refine zQ.s (fun h => zs_bipush (v := 116) o dX3_retires_216 (by decide)) ?_
        refine zQ.s (fun h => zs_goto (tgt := 243) o dX3_retires_218 (by decide)) ?_
        refine zQ.fg (zl_n (zl_n (zl_n (zl_n (zl_n (zl_n zl_0)))))) ?_
        exact hj243 _ _ _ _ (by omega) (by omega) hm
  have hj188 : ∀ (S : MS) (s1 : Int32) (cl sl : Nat), cl + (0) ≤ 5 → sl + (0) ≤ 25 → m_retires_j188 S s1 = some R → zQ (IM h0 p g 0 0 S) G X cl sl 188 [none, none, none, none, none, none] [.int s1, zrf p] := by
    intro S s1 cl sl hc hs hm
    unfold m_retires_j188 at hm
    obtain ⟨y1, c_y1, hm⟩ := bd_e hm
    refine zm_Vv o ml_X3_310 (M_loses G p g _ _ _ _ _ c_y1) dX3_retires_188 rfl rfl rfl rfl (by omega) (by omega) ?_
    refine zm_retv o f dX3_retires_191 (by omega) (by omega) ((so_e hm).trans hR9.symm)
  have hl61 : ∀ (n61 : Nat), n61 ≤ 5 → ∀ (S : MS) (x1 : Int32) (x2 : Int32) (cl sl : Nat), cl + (n61 * 1 + 0) ≤ 5 → sl + (n61 * 5 + 0) ≤ 25 → m_retires_l61 n61 S x1 x2 = some R → zQ (IM h0 p g 0 0 S) G X cl sl 61 [some (zrf p), some (.int x1), some (.int x2), none, none, none] [] := by
    intro n61
    induction n61 with
    | zero => intro _ S x1 x2 cl sl _ _ hm; exact no_e hm
    | succ n61 ih =>
      intro hf61
      have ih61 := ih (by omega)
      have hj204 : ∀ (S : MS) (x1 : Int32) (x2 : Int32) (cl sl : Nat), cl + (0 + (n61 * 1 + 0)) ≤ 5 → sl + (0 + (n61 * 5 + 0)) ≤ 25 → m_retires_j204 (m_retires_l61 n61) S x1 x2 = some R → zQ (IM h0 p g 0 0 S) G X cl sl 204 [some (zrf p), some (.int x1), some (.int x2), none, none, none] [] := by
        intro S x1 x2 cl sl hc hs hm
        unfold m_retires_j204 at hm
        refine zQ.s (fun h => zs_goto (tgt := 61) o dX3_retires_204 (by decide)) ?_
        exact ih61 _ _ _ _ _ (by omega) (by omega) hm
      have hj192 : ∀ (S : MS) (x1 : Int32) (x2 : Int32) (x3 : Nat) (cl sl : Nat), cl + (1 + (n61 * 1 + 0)) ≤ 5 → sl + (5 + (n61 * 5 + 0)) ≤ 25 → x3 < 16 → m_retires_j192 (m_retires_l61 n61) S x1 x2 x3 = some R → zQ (IM h0 p g 0 0 S) G X cl sl 192 [some (zrf p), some (.int x1), some (.int x2), some (zrf (g.2.1 x3)), none, none] [] := by
        intro S x1 x2 x3 cl sl hc hs h_x3 hm
        unfold m_retires_j192 at hm
        refine zQ.s (fun h => zs_aload_n (i := 0) o dX3_retires_192 rfl rfl) ?_
        obtain ⟨y1, c_y1, hm⟩ := bd_e hm
        refine zm_Vv o ml_X3_317 (M_leaves G p g _ _ _ _ c_y1) dX3_retires_193 rfl rfl rfl rfl (by omega) (by omega) ?_
        refine zQ.s (fun h => zs_aload_n (i := 0) o dX3_retires_196 rfl rfl) ?_
        refine zQ.s (fun h => zs_aload_n (i := 3) o dX3_retires_197 rfl rfl) ?_
        obtain ⟨y2, c_y2, hm⟩ := bd_e hm
        refine zm_Vv o ml_X3_320 (M_retire G p g _ _ h_x3 _ c_y2) dX3_retires_198 rfl rfl rfl rfl (by omega) (by omega) ?_
        refine zQ.s (fun h => zs_iinc (i := 1) (v := x1 + (1 : Int32)) o dX3_retires_201 rfl rfl (by decide) (Or.inr (zc2_ref rfl)) (by simp only [List.set_cons_succ, List.set_cons_zero]; rfl)) ?_
        refine zQ.fg (zl_s (zl_s (zl_s (zl_n (zl_n (zl_n zl_0)))))) ?_
        exact hj204 _ _ _ _ _ (by omega) (by omega) hm
      have hj137 : ∀ (S : MS) (x1 : Int32) (x2 : Int32) (x3 : Nat) (x4 : Int32) (s0 : Int32) (cl sl : Nat), cl + (1 + (n61 * 1 + 0)) ≤ 5 → sl + (5 + (n61 * 5 + 0)) ≤ 25 → x3 < 16 → m_retires_j137 (m_retires_l61 n61) S x1 x2 x3 x4 s0 = some R → zQ (IM h0 p g 0 0 S) G X cl sl 137 [some (zrf p), some (.int x1), some (.int x2), some (zrf (g.2.1 x3)), some (.int x4), none] [.int s0] := by
        intro S x1 x2 x3 x4 s0 cl sl hc hs h_x3 hm
        unfold m_retires_j137 at hm
        refine zQ.s (fun h => zs_istore (i := 5) o dX3_retires_137 (by decide) (Or.inr rfl) (by simp only [List.set_cons_succ, List.set_cons_zero]; rfl)) ?_
        refine zQ.s (fun h => zs_iload (i := 5) o dX3_retires_139 rfl) ?_
        refine zQ.b (fun h => zs_if_le (tgt := 156) o dX3_retires_141 (by decide)) (fun c => ?_) (fun c => ?_)
        · have hm := if_e1 hm c
          refine zQ.s (fun h => zs_iload (i := 4) o dX3_retires_156 rfl) ?_
          obtain ⟨y1, c_y1, hm⟩ := bd_e hm
          refine zQ_Si o ml_X3_231 (M_isStore G _ _ c_y1) dX3_retires_158 rfl rfl rfl rfl (by omega) (by omega) ?_
          refine zQ.b (fun h => zs_if_eq (tgt := 192) o dX3_retires_161 (by decide)) (fun c => ?_) (fun c => ?_)
          · have hm := if_e1 hm c
            refine zQ.fg (zl_s (zl_s (zl_s (zl_s (zl_n (zl_n zl_0)))))) ?_
            exact hj192 _ _ _ _ _ _ (by omega) (by omega) h_x3 hm
          · have hm := if_e2 hm c
            refine zQ.s (fun h => zs_aload_n (i := 0) o dX3_retires_164 rfl rfl) ?_
            refine zm_getR o fl_X3_65_3 rfl dX3_retires_165 ?_
            refine zQ.s (fun h => zs_aload_n (i := 3) o dX3_retires_168 rfl rfl) ?_
            refine zQ.s (fun h => zs_bipush (v := 8) o dX3_retires_169 (by decide)) ?_
            obtain ⟨g2, hm⟩ := gd_e hm
            refine zm_rald o h_x3 dX3_retires_171 g2 ?_
            obtain ⟨g3, hm⟩ := gd_e hm
            refine zm_bald o rfl dX3_retires_172 g3 ?_
            refine zQ.b (fun h => zs_if_ne (tgt := 192) o dX3_retires_173 (by decide)) (fun c => ?_) (fun c => ?_)
            · have hm := if_e2 hm c
              refine zQ.fg (zl_s (zl_s (zl_s (zl_s (zl_n (zl_n zl_0)))))) ?_
              exact hj192 _ _ _ _ _ _ (by omega) (by omega) h_x3 hm
            · have hm := if_e1 hm c
              refine zQ.s (fun h => zs_aload_n (i := 0) o dX3_retires_176 rfl rfl) ?_
              refine zQ.s (fun h => zs_iload_n (i := 1) o dX3_retires_177 rfl rfl) ?_
              refine zQ.b (fun h => zs_if_ne (tgt := 186) o dX3_retires_178 (by decide)) (fun c => ?_) (fun c => ?_)
              · have hm := if_e2 hm c
                refine zQ.s (fun h => zs_bipush (v := 45) o dX3_retires_186 (by decide)) ?_
                refine zQ.fg (zl_n (zl_n (zl_n (zl_n (zl_n (zl_n zl_0)))))) ?_
                exact hj188 _ _ _ _ (by omega) (by omega) hm
              · have hm := if_e1 hm c
                refine zQ.s (fun h => zs_bipush (v := 100) o dX3_retires_181 (by decide)) ?_
                refine zQ.s (fun h => zs_goto (tgt := 188) o dX3_retires_183 (by decide)) ?_
                refine zQ.fg (zl_n (zl_n (zl_n (zl_n (zl_n (zl_n zl_0)))))) ?_
                exact hj188 _ _ _ _ (by omega) (by omega) hm
        · have hm := if_e2 hm c
          refine zQ.s (fun h => zs_aload_n (i := 0) o dX3_retires_144 rfl rfl) ?_
          refine zQ.s (fun h => zs_aload_n (i := 3) o dX3_retires_145 rfl rfl) ?_
          refine zQ.s (fun h => zs_iload (i := 5) o dX3_retires_146 rfl) ?_
          obtain ⟨y4, c_y4, hm⟩ := bd_e hm
          refine zm_Vv o ml_X3_314 (M_traps G p g _ _ _ h_x3 _ c_y4) dX3_retires_148 rfl rfl rfl rfl (by omega) (by omega) ?_
          refine zQ.s (fun h => zs_iconst (v := 1) o dX3_retires_151 (by decide)) ?_
          refine zQ.s (fun h => zs_istore_n (i := 2) o dX3_retires_152 rfl (by decide) (Or.inr rfl) (by simp only [List.set_cons_succ, List.set_cons_zero]; rfl)) ?_
          refine zQ.s (fun h => zs_goto (tgt := 204) o dX3_retires_153 (by decide)) ?_
          refine zQ.fg (zl_s (zl_s (zl_s (zl_n (zl_n (zl_n zl_0)))))) ?_
          exact hj204 _ _ _ _ _ (by omega) (by omega) hm
      have hj133 : ∀ (S : MS) (x1 : Int32) (x2 : Int32) (x3 : Nat) (x4 : Int32) (cl sl : Nat), cl + (1 + (n61 * 1 + 0)) ≤ 5 → sl + (5 + (n61 * 5 + 0)) ≤ 25 → x3 < 16 → m_retires_j133 (m_retires_l61 n61) S x1 x2 x3 x4 = some R → zQ (IM h0 p g 0 0 S) G X cl sl 133 [some (zrf p), some (.int x1), some (.int x2), some (zrf (g.2.1 x3)), some (.int x4), none] [] := by
        intro S x1 x2 x3 x4 cl sl hc hs h_x3 hm
        unfold m_retires_j133 at hm
        refine zQ.s (fun h => zs_aload_n (i := 3) o dX3_retires_133 rfl rfl) ?_
        refine zQ.s (fun h => zs_bipush (v := 13) o dX3_retires_134 (by decide)) ?_
        obtain ⟨g1, hm⟩ := gd_e hm
        refine zm_rald o h_x3 dX3_retires_136 g1 ?_
        exact hj137 _ _ _ _ _ _ _ _ (by omega) (by omega) h_x3 hm
      intro S x1 x2 cl sl hc hs hm
      have hm : m_retires_b61 (m_retires_l61 n61) S x1 x2 = some R := hm
      unfold m_retires_b61 at hm
      refine zQ.s (fun h => zs_iload_n (i := 1) o dX3_retires_61 rfl rfl) ?_
      refine zQ.s (fun h => zs_aload_n (i := 0) o dX3_retires_62 rfl rfl) ?_
      refine zm_getI o fl_X3_25_3 rfl dX3_retires_63 ?_
      refine zQ.b (fun h => zs_icmp_ge (tgt := 207) o dX3_retires_66 (by decide)) (fun c => ?_) (fun c => ?_)
      · have hm := if_e1 hm c
        exact hj207 _ _ _ _ _ (by omega) (by omega) hm
      · have hm := if_e2 hm c
        refine zQ.s (fun h => zs_iload_n (i := 2) o dX3_retires_69 rfl rfl) ?_
        refine zQ.b (fun h => zs_if_ne (tgt := 207) o dX3_retires_70 (by decide)) (fun c => ?_) (fun c => ?_)
        · have hm := if_e2 hm c
          exact hj207 _ _ _ _ _ (by omega) (by omega) hm
        · have hm := if_e1 hm c
          refine zQ.s (fun h => zs_aload_n (i := 0) o dX3_retires_73 rfl rfl) ?_
          refine zm_getI o fl_X3_147_3 rfl dX3_retires_74 ?_
          refine zQ.b (fun h => zs_if_ne (tgt := 207) o dX3_retires_77 (by decide)) (fun c => ?_) (fun c => ?_)
          · have hm := if_e2 hm c
            exact hj207 _ _ _ _ _ (by omega) (by omega) hm
          · have hm := if_e1 hm c
            refine zQ.s (fun h => zs_aload_n (i := 0) o dX3_retires_80 rfl rfl) ?_
            refine zm_getI o fl_X3_198_3 rfl dX3_retires_81 ?_
            refine zQ.b (fun h => zs_if_le (tgt := 207) o dX3_retires_84 (by decide)) (fun c => ?_) (fun c => ?_)
            · have hm := if_e1 hm c
              exact hj207 _ _ _ _ _ (by omega) (by omega) hm
            · have hm := if_e2 hm c
              refine zQ.s (fun h => zs_aload_n (i := 0) o dX3_retires_87 rfl rfl) ?_
              refine zm_getR o fl_X3_74_3 rfl dX3_retires_88 ?_
              refine zQ.s (fun h => zs_iconst (v := 0) o dX3_retires_91 (by decide)) ?_
              obtain ⟨g1, hm⟩ := gd_e hm
              obtain ⟨r2, e_r2, hm⟩ := lt_e hm
              refine zm_row o dX3_retires_92 g1 e_r2 (fun h_r2 => ?_)
              refine zQ.s (fun h => zs_bipush (v := 11) o dX3_retires_93 (by decide)) ?_
              obtain ⟨g3, hm⟩ := gd_e hm
              refine zm_rald o h_r2 dX3_retires_95 g3 ?_
              refine zQ.s (fun h => zs_bipush (v := 101) o dX3_retires_96 (by decide)) ?_
              refine zQ.b (fun h => zs_icmp_ne (tgt := 207) o dX3_retires_98 (by decide)) (fun c => ?_) (fun c => ?_)
              · have hm := if_e2 hm c
                exact hj207 _ _ _ _ _ (by omega) (by omega) hm
              · have hm := if_e1 hm c
                refine zQ.s (fun h => zs_aload_n (i := 0) o dX3_retires_101 rfl rfl) ?_
                refine zm_getR o fl_X3_74_3 rfl dX3_retires_102 ?_
                refine zQ.s (fun h => zs_iconst (v := 0) o dX3_retires_105 (by decide)) ?_
                obtain ⟨g4, hm⟩ := gd_e hm
                obtain ⟨r5, e_r5, hm⟩ := lt_e hm
                refine zm_row o dX3_retires_106 g4 e_r5 (fun h_r5 => ?_)
                refine zQ.s (fun h => zs_astore_n (i := 3) o dX3_retires_107 rfl (by decide) (Or.inr rfl) (by simp only [List.set_cons_succ, List.set_cons_zero]; rfl)) ?_
                refine zQ.s (fun h => zs_aload_n (i := 0) o dX3_retires_108 rfl rfl) ?_
                refine zQ.s (fun h => zs_aload_n (i := 3) o dX3_retires_109 rfl rfl) ?_
                obtain ⟨y6, c_y6, hm⟩ := bd_e hm
                refine zm_Vi o ml_X3_201 (M_codeOf G p g _ _ _ _ h_r5 _ _ c_y6) dX3_retires_110 rfl rfl rfl rfl (by omega) (by omega) ?_
                refine zQ.s (fun h => zs_istore (i := 4) o dX3_retires_113 (by decide) (Or.inr (zc2_ref rfl)) (by simp only [List.set_cons_succ, List.set_cons_zero]; rfl)) ?_
                refine zQ.s (fun h => zs_iload (i := 4) o dX3_retires_115 rfl) ?_
                refine zQ.s (fun h => zs_bipush (v := 21) o dX3_retires_117 (by decide)) ?_
                refine zQ.b (fun h => zs_icmp_ne (tgt := 133) o dX3_retires_119 (by decide)) (fun c => ?_) (fun c => ?_)
                · have hm := if_e2 hm c
                  exact hj133 _ _ _ _ _ _ _ (by omega) (by omega) h_r5 hm
                · have hm := if_e1 hm c
                  refine zQ.s (fun h => zs_aload_n (i := 0) o dX3_retires_122 rfl rfl) ?_
                  refine zm_getI o fl_X3_291_3 rfl dX3_retires_123 ?_
                  refine zQ.b (fun h => zs_if_ne (tgt := 133) o dX3_retires_126 (by decide)) (fun c => ?_) (fun c => ?_)
                  · have hm := if_e2 hm c
                    exact hj133 _ _ _ _ _ _ _ (by omega) (by omega) h_r5 hm
                  · have hm := if_e1 hm c
                    refine zQ.s (fun h => zs_iconst (v := 5) o dX3_retires_129 (by decide)) ?_
                    refine zQ.s (fun h => zs_goto (tgt := 137) o dX3_retires_130 (by decide)) ?_
                    exact hj137 _ _ _ _ _ _ _ _ (by omega) (by omega) h_r5 hm
  have hj57 : ∀ (S : MS) (cl sl : Nat), cl + (5) ≤ 5 → sl + (25) ≤ 25 → m_retires_j57 S = some R → zQ (IM h0 p g 0 0 S) G X cl sl 57 [some (zrf p), none, none, none, none, none] [] := by
    intro S cl sl hc hs hm
    unfold m_retires_j57 at hm
    refine zQ.s (fun h => zs_iconst (v := 0) o dX3_retires_57 (by decide)) ?_
    refine zQ.s (fun h => zs_istore_n (i := 1) o dX3_retires_58 rfl (by decide) (Or.inr (zc2_ref rfl)) (by simp only [List.set_cons_succ, List.set_cons_zero]; rfl)) ?_
    refine zQ.s (fun h => zs_iconst (v := 0) o dX3_retires_59 (by decide)) ?_
    refine zQ.s (fun h => zs_istore_n (i := 2) o dX3_retires_60 rfl (by decide) (Or.inr rfl) (by simp only [List.set_cons_succ, List.set_cons_zero]; rfl)) ?_
    exact hl61 5 (Nat.le_refl _) _ _ _ _ _ (by omega) (by omega) hm
  unfold m_retires at hm
  refine zQ.s (fun h => zs_aload_n (i := 0) o dX3_retires_0 rfl rfl) ?_
  refine zm_getI o fl_X3_143_3 rfl dX3_retires_1 ?_
  refine zQ.b (fun h => zs_if_eq (tgt := 57) o dX3_retires_4 (by decide)) (fun c => ?_) (fun c => ?_)
  · have hm := if_e1 hm c
    exact hj57 _ _ _ (by omega) (by omega) hm
  · have hm := if_e2 hm c
    refine zQ.s (fun h => zs_aload_n (i := 0) o dX3_retires_7 rfl rfl) ?_
    refine zm_getI o fl_X3_291_3 rfl dX3_retires_8 ?_
    refine zQ.b (fun h => zs_if_ne (tgt := 57) o dX3_retires_11 (by decide)) (fun c => ?_) (fun c => ?_)
    · have hm := if_e2 hm c
      exact hj57 _ _ _ (by omega) (by omega) hm
    · have hm := if_e1 hm c
      refine zQ.s (fun h => zs_aload_n (i := 0) o dX3_retires_14 rfl rfl) ?_
      refine zm_getI o fl_X3_41_3 rfl dX3_retires_15 ?_
      refine zQ.s (fun h => zs_iconst (v := -1) o dX3_retires_18 (by decide)) ?_
      refine zQ.b (fun h => zs_icmp_eq (tgt := 57) o dX3_retires_19 (by decide)) (fun c => ?_) (fun c => ?_)
      · have hm := if_e1 hm c
        exact hj57 _ _ _ (by omega) (by omega) hm
      · have hm := if_e2 hm c
        refine zQ.s (fun h => zs_aload_n (i := 0) o dX3_retires_22 rfl rfl) ?_
        refine zQ.s (fun h => zs_iconst (v := 0) o dX3_retires_23 (by decide)) ?_
        obtain ⟨S1, e_S1, hm⟩ := lt_e hm
        refine zm_putI o fl_X3_143_3 rfl rfl ⟨rfl, rfl⟩ dX3_retires_24 e_S1 ?_
        refine zQ.s (fun h => zs_aload_n (i := 0) o dX3_retires_27 rfl rfl) ?_
        refine zQ.s (fun h => zs_bipush (v := 9) o dX3_retires_28 (by decide)) ?_
        refine zQ.s (fun h => zs_aload_n (i := 0) o dX3_retires_30 rfl rfl) ?_
        refine zm_getI o fl_X3_294_3 rfl dX3_retires_31 ?_
        refine zQ.s (fun h => zs_nul o dX3_retires_34) ?_
        obtain ⟨y2, c_y2, hm⟩ := bd_e hm
        refine zm_Vv o ml_X3_297 (M_tellsEndN G p g _ _ _ _ _ _ c_y2) dX3_retires_35 rfl rfl rfl rfl (by omega) (by omega) ?_
        refine zQ.s (fun h => zs_aload_n (i := 0) o dX3_retires_38 rfl rfl) ?_
        refine zQ.s (fun h => zs_aload_n (i := 0) o dX3_retires_39 rfl rfl) ?_
        refine zm_getI o fl_X3_294_3 rfl dX3_retires_40 ?_
        refine zQ.s (fun h => zs_aload_n (i := 0) o dX3_retires_43 rfl rfl) ?_
        refine zm_getI o fl_X3_41_3 rfl dX3_retires_44 ?_
        obtain ⟨y3, c_y3, hm⟩ := bd_e hm
        refine zm_Vv o ml_X3_301 (M_handles G p g _ _ _ _ _ _ c_y3) dX3_retires_47 rfl rfl rfl rfl (by omega) (by omega) ?_
        refine zQ.s (fun h => zs_aload_n (i := 0) o dX3_retires_50 rfl rfl) ?_
        refine zQ.s (fun h => zs_bipush (v := 105) o dX3_retires_51 (by decide)) ?_
        obtain ⟨y4, c_y4, hm⟩ := bd_e hm
        refine zm_Vv o ml_X3_310 (M_loses G p g _ _ _ _ _ c_y4) dX3_retires_53 rfl rfl rfl rfl (by omega) (by omega) ?_
        refine zm_retv o f dX3_retires_56 (by omega) (by omega) ((so_e hm).trans hR9.symm)

def m_cycles (S : MS) : Option MS :=
  lt (tS S 36 ((mS S 36) + (1 : Int32))) fun S1 =>
  bd (m_answers S1) fun y2 =>
  bd (m_endings y2) fun y3 =>
  bd (m_retires y3) fun y4 =>
  bd (m_begins y4) fun y5 =>
  bd (m_renames y5) fun y6 =>
  bd (m_fetches y6) fun y7 =>
  some y7

set_option maxHeartbeats 40000000 in
theorem M_cycles (G : zG) (p : Nat) (g : MG) (S : MS) (S9 : MS) (hm : m_cycles S = some S9) : zMv G yX3_cycles cX3_cycles 1 none 6 5 25 p g 0 0 [] S S9 := by
  intro h0 h hI0
  refine zCo.st [some (zrf p)] rfl rfl (by simp only [zarg_r, zarg_i, zarg_l, zarg_0]; rfl) (fun X o f0 hin hw0 => ?_)
  have f := f0.e
  refine (?_ : zQ (IM h0 p g 0 0 S) G X 0 0 0 [some (zrf p)] []) h hI0 hw0
  clear hI0 hw0
  generalize hR9 : (S9 : MS) = R at hm
  unfold m_cycles at hm
  refine zQ.s (fun h => zs_aload_n (i := 0) o dX3_cycles_0 rfl rfl) ?_
  refine zQ.s (fun h => zs_dup o dX3_cycles_1 (by first | rfl | exact zrf_cat _)) ?_
  refine zm_getI o fl_X3_133_3 rfl dX3_cycles_2 ?_
  refine zQ.s (fun h => zs_iconst (v := 1) o dX3_cycles_5 (by decide)) ?_
  refine zQ.s (fun h => zs_iadd o dX3_cycles_6) ?_
  obtain ⟨S1, e_S1, hm⟩ := lt_e hm
  refine zm_putI o fl_X3_133_3 rfl rfl ⟨rfl, rfl⟩ dX3_cycles_7 e_S1 ?_
  refine zQ.s (fun h => zs_aload_n (i := 0) o dX3_cycles_10 rfl rfl) ?_
  obtain ⟨y2, c_y2, hm⟩ := bd_e hm
  refine zm_Vv o ml_X3_156 (M_answers G p g _ _ _ _ c_y2) dX3_cycles_11 rfl rfl rfl rfl (by omega) (by omega) ?_
  refine zQ.s (fun h => zs_aload_n (i := 0) o dX3_cycles_14 rfl rfl) ?_
  obtain ⟨y3, c_y3, hm⟩ := bd_e hm
  refine zm_Vv o ml_X3_159 (M_endings G p g _ _ _ _ c_y3) dX3_cycles_15 rfl rfl rfl rfl (by omega) (by omega) ?_
  refine zQ.s (fun h => zs_aload_n (i := 0) o dX3_cycles_18 rfl rfl) ?_
  obtain ⟨y4, c_y4, hm⟩ := bd_e hm
  refine zm_Vv o ml_X3_162 (M_retires G p g _ _ c_y4) dX3_cycles_19 rfl rfl rfl rfl (by omega) (by omega) ?_
  refine zQ.s (fun h => zs_aload_n (i := 0) o dX3_cycles_22 rfl rfl) ?_
  obtain ⟨y5, c_y5, hm⟩ := bd_e hm
  refine zm_Vv o ml_X3_165 (M_begins G p g _ _ _ _ c_y5) dX3_cycles_23 rfl rfl rfl rfl (by omega) (by omega) ?_
  refine zQ.s (fun h => zs_aload_n (i := 0) o dX3_cycles_26 rfl rfl) ?_
  obtain ⟨y6, c_y6, hm⟩ := bd_e hm
  refine zm_Vv o ml_X3_168 (M_renames G p g _ _ _ _ c_y6) dX3_cycles_27 rfl rfl rfl rfl (by omega) (by omega) ?_
  refine zQ.s (fun h => zs_aload_n (i := 0) o dX3_cycles_30 rfl rfl) ?_
  obtain ⟨y7, c_y7, hm⟩ := bd_e hm
  refine zm_Vv o ml_X3_171 (M_fetches G p g _ _ _ _ c_y7) dX3_cycles_31 rfl rfl rfl rfl (by omega) (by omega) ?_
  refine zm_retv o f dX3_cycles_34 (by omega) (by omega) ((so_e hm).trans hR9.symm)

def m_run_j78 (S : MS) (x2 : Int32) : Option (MS × Int32) :=
  some (S, (mS S 46) - x2)
def m_run_b49 (k49 : MS → Int32 → Int32 → Int32 → Option (MS × Int32)) (S : MS) (x1 : Int32) (x2 : Int32) (x3 : Int32) : Option (MS × Int32) :=
  if x1 ≤ x3 then
    m_run_j78 S x2
  else
    if (mS S 54) = (0 : Int32) then
      if (mS S 37) = (0 : Int32) then
        bd (m_cycles S) fun y1 =>
        k49 y1 x1 x2 (x3 + (1 : Int32))
      else
        m_run_j78 S x2
    else
      m_run_j78 S x2
def m_run_l49 : Nat → MS → Int32 → Int32 → Int32 → Option (MS × Int32)
  | 0 => fun _ _ _ _ => none
  | n + 1 => m_run_b49 (m_run_l49 n)
def m_run_j39 (S : MS) (x1 : Int32) (s1 : Int32) : Option (MS × Int32) :=
  lt (tS S 54 s1) fun S1 =>
  lt (mS S1 46) fun v2 =>
  m_run_l49 61 S1 x1 v2 (0 : Int32)
def m_run_j23 (S : MS) (x1 : Int32) : Option (MS × Int32) :=
  m_run_j39 S x1 (1 : Int32)
def m_run (S : MS) (a1 : Int32) : Option (MS × Int32) :=
  bd (m_in a1 (1 : Int32) (60 : Int32)) fun y1 =>
  if y1 = (0 : Int32) then
    m_run_j23 S a1
  else
    if ((mS S 36) + a1) ≤ (500 : Int32) then
      if (mS S 37) = (0 : Int32) then
        m_run_j39 S a1 (0 : Int32)
      else
        m_run_j39 S a1 (2 : Int32)
    else
      m_run_j23 S a1

set_option maxHeartbeats 40000000 in
theorem M_run (G : zG) (p : Nat) (g : MG) (S : MS) (a1 : Int32) (V : Int32) (S9 : MS) (hm : m_run S a1 = some (S9, V)) : zMi G yX3_run cX3_run 4 (some .int) 7 305 1525 p g 0 0 [.int a1] S V S9 := by
  intro h0 h hI0
  refine zCo.st [some (zrf p), some (.int a1), none, none] rfl rfl (by simp only [zarg_r, zarg_i, zarg_l, zarg_0]; rfl) (fun X o f0 hin hw0 => ?_)
  have f := f0.e
  refine (?_ : zQ (IM h0 p g 0 0 S) G X 0 0 0 [some (zrf p), some (.int a1), none, none] []) h hI0 hw0
  clear hI0 hw0
  generalize hR9 : ((S9, V) : (MS × Int32)) = R at hm
  have hj78 : ∀ (S : MS) (x2 : Int32) (cl sl : Nat), cl + (0) ≤ 305 → sl + (0) ≤ 1525 → m_run_j78 S x2 = some R → zQ (IM h0 p g 0 0 S) G X cl sl 78 [some (zrf p), none, some (.int x2), none] [] := by
    intro S x2 cl sl hc hs hm
    unfold m_run_j78 at hm
    refine zQ.s (fun h => zs_aload_n (i := 0) o dX3_run_78 rfl rfl) ?_
    refine zm_getI o fl_X3_150_3 rfl dX3_run_79 ?_
    refine zQ.s (fun h => zs_iload_n (i := 2) o dX3_run_82 rfl rfl) ?_
    refine zQ.s (fun h => zs_isub o dX3_run_83) ?_
    refine zm_reti o f dX3_run_84 rfl (by omega) (by omega) ((so_e hm).trans hR9.symm)
  have hl49 : ∀ (n49 : Nat), n49 ≤ 61 → ∀ (S : MS) (x1 : Int32) (x2 : Int32) (x3 : Int32) (cl sl : Nat), cl + (n49 * 5 + 0) ≤ 305 → sl + (n49 * 25 + 0) ≤ 1525 → m_run_l49 n49 S x1 x2 x3 = some R → zQ (IM h0 p g 0 0 S) G X cl sl 49 [some (zrf p), some (.int x1), some (.int x2), some (.int x3)] [] := by
    intro n49
    induction n49 with
    | zero => intro _ S x1 x2 x3 cl sl _ _ hm; exact no_e hm
    | succ n49 ih =>
      intro hf49
      have ih49 := ih (by omega)
      intro S x1 x2 x3 cl sl hc hs hm
      have hm : m_run_b49 (m_run_l49 n49) S x1 x2 x3 = some R := hm
      unfold m_run_b49 at hm
      refine zQ.s (fun h => zs_iload_n (i := 3) o dX3_run_49 rfl rfl) ?_
      refine zQ.s (fun h => zs_iload_n (i := 1) o dX3_run_50 rfl rfl) ?_
      refine zQ.b (fun h => zs_icmp_ge (tgt := 78) o dX3_run_51 (by decide)) (fun c => ?_) (fun c => ?_)
      · have hm := if_e1 hm c
        refine zQ.fg (zl_s (zl_n (zl_s (zl_n zl_0)))) ?_
        exact hj78 _ _ _ _ (by omega) (by omega) hm
      · have hm := if_e2 hm c
        refine zQ.s (fun h => zs_aload_n (i := 0) o dX3_run_54 rfl rfl) ?_
        refine zm_getI o fl_X3_123_3 rfl dX3_run_55 ?_
        refine zQ.b (fun h => zs_if_ne (tgt := 78) o dX3_run_58 (by decide)) (fun c => ?_) (fun c => ?_)
        · have hm := if_e2 hm c
          refine zQ.fg (zl_s (zl_n (zl_s (zl_n zl_0)))) ?_
          exact hj78 _ _ _ _ (by omega) (by omega) hm
        · have hm := if_e1 hm c
          refine zQ.s (fun h => zs_aload_n (i := 0) o dX3_run_61 rfl rfl) ?_
          refine zm_getI o fl_X3_147_3 rfl dX3_run_62 ?_
          refine zQ.b (fun h => zs_if_ne (tgt := 78) o dX3_run_65 (by decide)) (fun c => ?_) (fun c => ?_)
          · have hm := if_e2 hm c
            refine zQ.fg (zl_s (zl_n (zl_s (zl_n zl_0)))) ?_
            exact hj78 _ _ _ _ (by omega) (by omega) hm
          · have hm := if_e1 hm c
            refine zQ.s (fun h => zs_aload_n (i := 0) o dX3_run_68 rfl rfl) ?_
            obtain ⟨y1, c_y1, hm⟩ := bd_e hm
            refine zm_Vv o ml_X3_153 (M_cycles G p g _ _ c_y1) dX3_run_69 rfl rfl rfl rfl (by omega) (by omega) ?_
            refine zQ.s (fun h => zs_iinc (i := 3) (v := x3 + (1 : Int32)) o dX3_run_72 rfl rfl (by decide) (Or.inr rfl) (by simp only [List.set_cons_succ, List.set_cons_zero]; rfl)) ?_
            refine zQ.s (fun h => zs_goto (tgt := 49) o dX3_run_75 (by decide)) ?_
            exact ih49 _ _ _ _ _ _ (by omega) (by omega) hm
  have hj39 : ∀ (S : MS) (x1 : Int32) (s1 : Int32) (cl sl : Nat), cl + (305) ≤ 305 → sl + (1525) ≤ 1525 → m_run_j39 S x1 s1 = some R → zQ (IM h0 p g 0 0 S) G X cl sl 39 [some (zrf p), some (.int x1), none, none] [.int s1, zrf p] := by
    intro S x1 s1 cl sl hc hs hm
    unfold m_run_j39 at hm
    obtain ⟨S1, e_S1, hm⟩ := lt_e hm
    refine zm_putI o fl_X3_123_3 rfl rfl ⟨rfl, rfl⟩ dX3_run_39 e_S1 ?_
    refine zQ.s (fun h => zs_aload_n (i := 0) o dX3_run_42 rfl rfl) ?_
    refine zm_getI o fl_X3_150_3 rfl dX3_run_43 ?_
    obtain ⟨v2, e_v2, hm⟩ := lt_e hm
    refine zQ.nmi e_v2 ?_
    refine zQ.s (fun h => zs_istore_n (i := 2) o dX3_run_46 rfl (by decide) (Or.inr rfl) (by simp only [List.set_cons_succ, List.set_cons_zero]; rfl)) ?_
    refine zQ.s (fun h => zs_iconst (v := 0) o dX3_run_47 (by decide)) ?_
    refine zQ.s (fun h => zs_istore_n (i := 3) o dX3_run_48 rfl (by decide) (Or.inr rfl) (by simp only [List.set_cons_succ, List.set_cons_zero]; rfl)) ?_
    exact hl49 61 (Nat.le_refl _) _ _ _ _ _ _ (by omega) (by omega) hm
  have hj23 : ∀ (S : MS) (x1 : Int32) (cl sl : Nat), cl + (305) ≤ 305 → sl + (1525) ≤ 1525 → m_run_j23 S x1 = some R → zQ (IM h0 p g 0 0 S) G X cl sl 23 [some (zrf p), some (.int x1), none, none] [zrf p] := by
    intro S x1 cl sl hc hs hm
    unfold m_run_j23 at hm
    refine zQ.s (fun h => zs_iconst (v := 1) o dX3_run_23 (by decide)) ?_
    refine zQ.s (fun h => zs_goto (tgt := 39) o dX3_run_24 (by decide)) ?_
    exact hj39 _ _ _ _ _ (by omega) (by omega) hm
  unfold m_run at hm
  refine zQ.s (fun h => zs_aload_n (i := 0) o dX3_run_0 rfl rfl) ?_
  refine zQ.s (fun h => zs_iload_n (i := 1) o dX3_run_1 rfl rfl) ?_
  refine zQ.s (fun h => zs_iconst (v := 1) o dX3_run_2 (by decide)) ?_
  refine zQ.s (fun h => zs_bipush (v := 60) o dX3_run_3 (by decide)) ?_
  obtain ⟨y1, c_y1, hm⟩ := bd_e hm
  refine zQ_Si o ml_X3_129 (M_in G _ _ _ _ c_y1) dX3_run_5 rfl rfl rfl rfl (by omega) (by omega) ?_
  refine zQ.b (fun h => zs_if_eq (tgt := 23) o dX3_run_8 (by decide)) (fun c => ?_) (fun c => ?_)
  · have hm := if_e1 hm c
    exact hj23 _ _ _ _ (by omega) (by omega) hm
  · have hm := if_e2 hm c
    refine zQ.s (fun h => zs_aload_n (i := 0) o dX3_run_11 rfl rfl) ?_
    refine zm_getI o fl_X3_133_3 rfl dX3_run_12 ?_
    refine zQ.s (fun h => zs_iload_n (i := 1) o dX3_run_15 rfl rfl) ?_
    refine zQ.s (fun h => zs_iadd o dX3_run_16) ?_
    refine zQ.s (fun h => zs_sipush (v := 500) o dX3_run_17 (by decide)) ?_
    refine zQ.b (fun h => zs_icmp_le (tgt := 27) o dX3_run_20 (by decide)) (fun c => ?_) (fun c => ?_)
    · have hm := if_e1 hm c
      refine zQ.s (fun h => zs_aload_n (i := 0) o dX3_run_27 rfl rfl) ?_
      refine zm_getI o fl_X3_147_3 rfl dX3_run_28 ?_
      refine zQ.b (fun h => zs_if_eq (tgt := 38) o dX3_run_31 (by decide)) (fun c => ?_) (fun c => ?_)
      · have hm := if_e1 hm c
        refine zQ.s (fun h => zs_iconst (v := 0) o dX3_run_38 (by decide)) ?_
        exact hj39 _ _ _ _ _ (by omega) (by omega) hm
      · have hm := if_e2 hm c
        refine zQ.s (fun h => zs_iconst (v := 2) o dX3_run_34 (by decide)) ?_
        refine zQ.s (fun h => zs_goto (tgt := 39) o dX3_run_35 (by decide)) ?_
        exact hj39 _ _ _ _ _ (by omega) (by omega) hm
    · have hm := if_e2 hm c
      exact hj23 _ _ _ _ (by omega) (by omega) hm
