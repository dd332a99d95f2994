/-! THE REFERENCE, method by method: what it does (m_) and that it does it (M_): printed by mk30.py -/
set_option maxRecDepth 100000
def m_codeOf (S : MS) (a1 : Nat) : Option (MS × Int32) :=
  gd (inb (0 : Int32) 28) <|
  gd (inb (mB S a1 (ix (0 : Int32))) 64) <|
  some (S, mA S 0 (ix (mB S a1 (ix (0 : Int32)))))

set_option maxHeartbeats 40000000 in
theorem M_codeOf (G : zG) (p : Nat) (g : MG) (q n : Nat) (S : MS) (a1 : Nat) (h_a1 : a1 < 16) (V : Int32) (S9 : MS) (hm : m_codeOf S a1 = some (S9, V)) : zMi G yX3_codeOf cX3_codeOf 2 (some .int) 0 0 0 p g q n [zrf (g.2.1 a1)] S V S9 := by
  intro h0 h hI0
  refine zCo.st [some (zrf p), some (zrf (g.2.1 a1))] rfl rfl (by simp only [zarg_r, zarg_i, zarg_l, zarg_0]; rfl) (fun X o f0 hin hw0 => ?_)
  have f := f0.e
  refine (?_ : zQ (IM h0 p g q n S) G X 0 0 0 [some (zrf p), some (zrf (g.2.1 a1))] []) h hI0 hw0
  clear hI0 hw0
  generalize hR9 : ((S9, V) : (MS × Int32)) = R at hm
  unfold m_codeOf at hm
  refine zQ.s (fun h => zs_aload_n (i := 0) o dX3_codeOf_0 rfl rfl) ?_
  refine zm_getR o fl_X3_9_3 rfl dX3_codeOf_1 ?_
  refine zQ.s (fun h => zs_aload_n (i := 1) o dX3_codeOf_4 rfl rfl) ?_
  refine zQ.s (fun h => zs_iconst (v := 0) o dX3_codeOf_5 (by decide)) ?_
  obtain ⟨g1, hm⟩ := gd_e hm
  refine zm_rald o h_a1 dX3_codeOf_6 g1 ?_
  obtain ⟨g2, hm⟩ := gd_e hm
  refine zm_iald o rfl dX3_codeOf_7 g2 ?_
  refine zm_reti o f dX3_codeOf_8 rfl (by omega) (by omega) ((so_e hm).trans hR9.symm)

def m_guess_j44 (S : MS) (s0 : Int32) : Option (MS × Int32) :=
  some (S, s0)
def m_guess_j19 (S : MS) (x1 : Int32) : Option (MS × Int32) :=
  gd (inb (irm x1 (16 : Int32)) 16) <|
  if (mA S 29 (ix (irm x1 (16 : Int32)))) < (2 : Int32) then
    m_guess_j44 S (x1 + (1 : Int32))
  else
    gd (inb x1 64) <|
    m_guess_j44 S (mA S 4 (ix x1))
def m_guess_j57 (S : MS) (x1 : Int32) : Option (MS × Int32) :=
  gd (inb x1 64) <|
  some (S, mA S 4 (ix x1))
def m_guess_j137 (S : MS) (s0 : Int32) : Option (MS × Int32) :=
  some (S, s0)
def m_guess_j134 (S : MS) (x1 : Int32) : Option (MS × Int32) :=
  m_guess_j137 S (x1 + (1 : Int32))
def m_guess_j103 (S : MS) (x1 : Int32) (x2 : Int32) : Option (MS × Int32) :=
  if x2 = (17 : Int32) then
    gd (inb (irm x1 (8 : Int32)) 8) <|
    if (mA S 30 (ix (irm x1 (8 : Int32)))) = (-1 : Int32) then
      m_guess_j134 S x1
    else
      gd (inb (irm x1 (8 : Int32)) 8) <|
      m_guess_j137 S (mA S 30 (ix (irm x1 (8 : Int32))))
  else
    m_guess_j134 S x1
def m_guess (S : MS) (a1 : Int32) : Option (MS × Int32) :=
  gd (inb a1 64) <|
  lt (mA S 0 (ix a1)) fun v2 =>
  if v2 = (12 : Int32) then
    m_guess_j19 S a1
  else
    if v2 = (13 : Int32) then
      m_guess_j19 S a1
    else
      if v2 = (14 : Int32) then
        m_guess_j57 S a1
      else
        if v2 = (15 : Int32) then
          m_guess_j57 S a1
        else
          if v2 = (16 : Int32) then
            gd (inb (0 : Int32) 5) <|
            if (mA S 28 (ix (0 : Int32))) ≤ (0 : Int32) then
              m_guess_j103 S a1 v2
            else
              gd (inb (0 : Int32) 5) <|
              gd (inb (0 : Int32) 5) <|
              lt (tA S 28 (ix (0 : Int32)) ((mA S 28 (ix (0 : Int32))) - (1 : Int32))) fun S6 =>
              gd (inb (0 : Int32) 5) <|
              gd (inb ((mA S6 28 (ix (0 : Int32))) + (1 : Int32)) 5) <|
              some (S6, mA S6 28 (ix ((mA S6 28 (ix (0 : Int32))) + (1 : Int32))))
          else
            m_guess_j103 S a1 v2

set_option maxHeartbeats 40000000 in
theorem M_guess (G : zG) (p : Nat) (g : MG) (q n : Nat) (S : MS) (a1 : Int32) (V : Int32) (S9 : MS) (hm : m_guess S a1 = some (S9, V)) : zMi G yX3_guess cX3_guess 3 (some .int) 0 0 0 p g q n [.int a1] S V S9 := by
  intro h0 h hI0
  refine zCo.st [some (zrf p), some (.int a1), none] rfl rfl (by simp only [zarg_r, zarg_i, zarg_l, zarg_0]; rfl) (fun X o f0 hin hw0 => ?_)
  have f := f0.e
  refine (?_ : zQ (IM h0 p g q n S) G X 0 0 0 [some (zrf p), some (.int a1), none] []) h hI0 hw0
  clear hI0 hw0
  generalize hR9 : ((S9, V) : (MS × Int32)) = R at hm
  have hj44 : ∀ (S : MS) (s0 : Int32) (cl sl : Nat), cl + (0) ≤ 0 → sl + (0) ≤ 0 → m_guess_j44 S s0 = some R → zQ (IM h0 p g q n S) G X cl sl 44 [none, none, none] [.int s0] := by
    intro S s0 cl sl hc hs hm
    unfold m_guess_j44 at hm
    refine zm_reti o f dX3_guess_44 rfl (by omega) (by omega) ((so_e hm).trans hR9.symm)
  have hj19 : ∀ (S : MS) (x1 : Int32) (cl sl : Nat), cl + (0) ≤ 0 → sl + (0) ≤ 0 → m_guess_j19 S x1 = some R → zQ (IM h0 p g q n S) G X cl sl 19 [some (zrf p), some (.int x1), none] [] := by
    intro S x1 cl sl hc hs hm
    unfold m_guess_j19 at hm
    refine zQ.s (fun h => zs_aload_n (i := 0) o dX3_guess_19 rfl rfl) ?_
    refine zm_getR o fl_X3_83_3 rfl dX3_guess_20 ?_
    refine zQ.s (fun h => zs_iload_n (i := 1) o dX3_guess_23 rfl rfl) ?_
    refine zQ.s (fun h => zs_bipush (v := 16) o dX3_guess_24 (by decide)) ?_
    refine zQ.s (fun h => zs_irem o dX3_guess_26 (by decide)) ?_
    obtain ⟨g1, hm⟩ := gd_e hm
    refine zm_iald o rfl dX3_guess_27 g1 ?_
    refine zQ.s (fun h => zs_iconst (v := 2) o dX3_guess_28 (by decide)) ?_
    refine zQ.b (fun h => zs_icmp_lt (tgt := 41) o dX3_guess_29 (by decide)) (fun c => ?_) (fun c => ?_)
    · have hm := if_e1 hm c
      refine zQ.s (fun h => zs_iload_n (i := 1) o dX3_guess_41 rfl rfl) ?_
      refine zQ.s (fun h => zs_iconst (v := 1) o dX3_guess_42 (by decide)) ?_
      refine zQ.s (fun h => zs_iadd o dX3_guess_43) ?_
      refine zQ.fg (zl_n (zl_n (zl_n zl_0))) ?_
      exact hj44 _ _ _ _ (by omega) (by omega) hm
    · have hm := if_e2 hm c
      refine zQ.s (fun h => zs_aload_n (i := 0) o dX3_guess_32 rfl rfl) ?_
      refine zm_getR o fl_X3_22_3 rfl dX3_guess_33 ?_
      refine zQ.s (fun h => zs_iload_n (i := 1) o dX3_guess_36 rfl rfl) ?_
      obtain ⟨g2, hm⟩ := gd_e hm
      refine zm_iald o rfl dX3_guess_37 g2 ?_
      refine zQ.s (fun h => zs_goto (tgt := 44) o dX3_guess_38 (by decide)) ?_
      refine zQ.fg (zl_n (zl_n (zl_n zl_0))) ?_
      exact hj44 _ _ _ _ (by omega) (by omega) hm
  have hj57 : ∀ (S : MS) (x1 : Int32) (cl sl : Nat), cl + (0) ≤ 0 → sl + (0) ≤ 0 → m_guess_j57 S x1 = some R → zQ (IM h0 p g q n S) G X cl sl 57 [some (zrf p), some (.int x1), none] [] := by
    intro S x1 cl sl hc hs hm
    unfold m_guess_j57 at hm
    refine zQ.s (fun h => zs_aload_n (i := 0) o dX3_guess_57 rfl rfl) ?_
    refine zm_getR o fl_X3_22_3 rfl dX3_guess_58 ?_
    refine zQ.s (fun h => zs_iload_n (i := 1) o dX3_guess_61 rfl rfl) ?_
    obtain ⟨g1, hm⟩ := gd_e hm
    refine zm_iald o rfl dX3_guess_62 g1 ?_
    refine zm_reti o f dX3_guess_63 rfl (by omega) (by omega) ((so_e hm).trans hR9.symm)
  have hj137 : ∀ (S : MS) (s0 : Int32) (cl sl : Nat), cl + (0) ≤ 0 → sl + (0) ≤ 0 → m_guess_j137 S s0 = some R → zQ (IM h0 p g q n S) G X cl sl 137 [none, none, none] [.int s0] := by
    intro S s0 cl sl hc hs hm
    unfold m_guess_j137 at hm
    refine zm_reti o f dX3_guess_137 rfl (by omega) (by omega) ((so_e hm).trans hR9.symm)
  have hj134 : ∀ (S : MS) (x1 : Int32) (cl sl : Nat), cl + (0) ≤ 0 → sl + (0) ≤ 0 → m_guess_j134 S x1 = some R → zQ (IM h0 p g q n S) G X cl sl 134 [none, some (.int x1), none] [] := by
    intro S x1 cl sl hc hs hm
    unfold m_guess_j134 at hm
    refine zQ.s (fun h => zs_iload_n (i := 1) o dX3_guess_134 rfl rfl) ?_
    refine zQ.s (fun h => zs_iconst (v := 1) o dX3_guess_135 (by decide)) ?_
    refine zQ.s (fun h => zs_iadd o dX3_guess_136) ?_
    refine zQ.fg (zl_n (zl_n (zl_n zl_0))) ?_
    exact hj137 _ _ _ _ (by omega) (by omega) hm
  have hj103 : ∀ (S : MS) (x1 : Int32) (x2 : Int32) (cl sl : Nat), cl + (0) ≤ 0 → sl + (0) ≤ 0 → m_guess_j103 S x1 x2 = some R → zQ (IM h0 p g q n S) G X cl sl 103 [some (zrf p), some (.int x1), some (.int x2)] [] := by
    intro S x1 x2 cl sl hc hs hm
    unfold m_guess_j103 at hm
    refine zQ.s (fun h => zs_iload_n (i := 2) o dX3_guess_103 rfl rfl) ?_
    refine zQ.s (fun h => zs_bipush (v := 17) o dX3_guess_104 (by decide)) ?_
    refine zQ.b (fun h => zs_icmp_ne (tgt := 134) o dX3_guess_106 (by decide)) (fun c => ?_) (fun c => ?_)
    · have hm := if_e2 hm c
      refine zQ.fg (zl_n (zl_s (zl_n zl_0))) ?_
      exact hj134 _ _ _ _ (by omega) (by omega) hm
    · have hm := if_e1 hm c
      refine zQ.s (fun h => zs_aload_n (i := 0) o dX3_guess_109 rfl rfl) ?_
      refine zm_getR o fl_X3_86_3 rfl dX3_guess_110 ?_
      refine zQ.s (fun h => zs_iload_n (i := 1) o dX3_guess_113 rfl rfl) ?_
      refine zQ.s (fun h => zs_bipush (v := 8) o dX3_guess_114 (by decide)) ?_
      refine zQ.s (fun h => zs_irem o dX3_guess_116 (by decide)) ?_
      obtain ⟨g1, hm⟩ := gd_e hm
      refine zm_iald o rfl dX3_guess_117 g1 ?_
      refine zQ.s (fun h => zs_iconst (v := -1) o dX3_guess_118 (by decide)) ?_
      refine zQ.b (fun h => zs_icmp_eq (tgt := 134) o dX3_guess_119 (by decide)) (fun c => ?_) (fun c => ?_)
      · have hm := if_e1 hm c
        refine zQ.fg (zl_n (zl_s (zl_n zl_0))) ?_
        exact hj134 _ _ _ _ (by omega) (by omega) hm
      · have hm := if_e2 hm c
        refine zQ.s (fun h => zs_aload_n (i := 0) o dX3_guess_122 rfl rfl) ?_
        refine zm_getR o fl_X3_86_3 rfl dX3_guess_123 ?_
        refine zQ.s (fun h => zs_iload_n (i := 1) o dX3_guess_126 rfl rfl) ?_
        refine zQ.s (fun h => zs_bipush (v := 8) o dX3_guess_127 (by decide)) ?_
        refine zQ.s (fun h => zs_irem o dX3_guess_129 (by decide)) ?_
        obtain ⟨g2, hm⟩ := gd_e hm
        refine zm_iald o rfl dX3_guess_130 g2 ?_
        refine zQ.s (fun h => zs_goto (tgt := 137) o dX3_guess_131 (by decide)) ?_
        refine zQ.fg (zl_n (zl_n (zl_n zl_0))) ?_
        exact hj137 _ _ _ _ (by omega) (by omega) hm
  unfold m_guess at hm
  refine zQ.s (fun h => zs_aload_n (i := 0) o dX3_guess_0 rfl rfl) ?_
  refine zm_getR o fl_X3_9_3 rfl dX3_guess_1 ?_
  refine zQ.s (fun h => zs_iload_n (i := 1) o dX3_guess_4 rfl rfl) ?_
  obtain ⟨g1, hm⟩ := gd_e hm
  refine zm_iald o rfl dX3_guess_5 g1 ?_
  obtain ⟨v2, e_v2, hm⟩ := lt_e hm
  refine zQ.nmi e_v2 ?_
  refine zQ.s (fun h => zs_istore_n (i := 2) o dX3_guess_6 rfl (by decide) (Or.inr rfl) (by simp only [List.set_cons_succ, List.set_cons_zero]; rfl)) ?_
  refine zQ.s (fun h => zs_iload_n (i := 2) o dX3_guess_7 rfl rfl) ?_
  refine zQ.s (fun h => zs_bipush (v := 12) o dX3_guess_8 (by decide)) ?_
  refine zQ.b (fun h => zs_icmp_eq (tgt := 19) o dX3_guess_10 (by decide)) (fun c => ?_) (fun c => ?_)
  · have hm := if_e1 hm c
    refine zQ.fg (zl_s (zl_s (zl_n zl_0))) ?_
    exact hj19 _ _ _ _ (by omega) (by omega) hm
  · have hm := if_e2 hm c
    refine zQ.s (fun h => zs_iload_n (i := 2) o dX3_guess_13 rfl rfl) ?_
    refine zQ.s (fun h => zs_bipush (v := 13) o dX3_guess_14 (by decide)) ?_
    refine zQ.b (fun h => zs_icmp_ne (tgt := 45) o dX3_guess_16 (by decide)) (fun c => ?_) (fun c => ?_)
    · have hm := if_e2 hm c
      refine zQ.s (fun h => zs_iload_n (i := 2) o dX3_guess_45 rfl rfl) ?_
      refine zQ.s (fun h => zs_bipush (v := 14) o dX3_guess_46 (by decide)) ?_
      refine zQ.b (fun h => zs_icmp_eq (tgt := 57) o dX3_guess_48 (by decide)) (fun c => ?_) (fun c => ?_)
      · have hm := if_e1 hm c
        refine zQ.fg (zl_s (zl_s (zl_n zl_0))) ?_
        exact hj57 _ _ _ _ (by omega) (by omega) hm
      · have hm := if_e2 hm c
        refine zQ.s (fun h => zs_iload_n (i := 2) o dX3_guess_51 rfl rfl) ?_
        refine zQ.s (fun h => zs_bipush (v := 15) o dX3_guess_52 (by decide)) ?_
        refine zQ.b (fun h => zs_icmp_ne (tgt := 64) o dX3_guess_54 (by decide)) (fun c => ?_) (fun c => ?_)
        · have hm := if_e2 hm c
          refine zQ.s (fun h => zs_iload_n (i := 2) o dX3_guess_64 rfl rfl) ?_
          refine zQ.s (fun h => zs_bipush (v := 16) o dX3_guess_65 (by decide)) ?_
          refine zQ.b (fun h => zs_icmp_ne (tgt := 103) o dX3_guess_67 (by decide)) (fun c => ?_) (fun c => ?_)
          · have hm := if_e2 hm c
            exact hj103 _ _ _ _ _ (by omega) (by omega) hm
          · have hm := if_e1 hm c
            refine zQ.s (fun h => zs_aload_n (i := 0) o dX3_guess_70 rfl rfl) ?_
            refine zm_getR o fl_X3_80_3 rfl dX3_guess_71 ?_
            refine zQ.s (fun h => zs_iconst (v := 0) o dX3_guess_74 (by decide)) ?_
            obtain ⟨g3, hm⟩ := gd_e hm
            refine zm_iald o rfl dX3_guess_75 g3 ?_
            refine zQ.b (fun h => zs_if_le (tgt := 103) o dX3_guess_76 (by decide)) (fun c => ?_) (fun c => ?_)
            · have hm := if_e1 hm c
              exact hj103 _ _ _ _ _ (by omega) (by omega) hm
            · have hm := if_e2 hm c
              refine zQ.s (fun h => zs_aload_n (i := 0) o dX3_guess_79 rfl rfl) ?_
              refine zm_getR o fl_X3_80_3 rfl dX3_guess_80 ?_
              refine zQ.s (fun h => zs_iconst (v := 0) o dX3_guess_83 (by decide)) ?_
              refine zQ.s (fun h => zs_dup2_11 o dX3_guess_84 (by first | rfl | exact zrf_cat _) (by first | rfl | exact zrf_cat _)) ?_
              obtain ⟨g4, hm⟩ := gd_e hm
              refine zm_iald o rfl dX3_guess_85 g4 ?_
              refine zQ.s (fun h => zs_iconst (v := 1) o dX3_guess_86 (by decide)) ?_
              refine zQ.s (fun h => zs_isub o dX3_guess_87) ?_
              obtain ⟨g5, hm⟩ := gd_e hm
              obtain ⟨S6, e_S6, hm⟩ := lt_e hm
              refine zm_iast o rfl dX3_guess_88 g5 e_S6 ?_
              refine zQ.s (fun h => zs_aload_n (i := 0) o dX3_guess_89 rfl rfl) ?_
              refine zm_getR o fl_X3_80_3 rfl dX3_guess_90 ?_
              refine zQ.s (fun h => zs_aload_n (i := 0) o dX3_guess_93 rfl rfl) ?_
              refine zm_getR o fl_X3_80_3 rfl dX3_guess_94 ?_
              refine zQ.s (fun h => zs_iconst (v := 0) o dX3_guess_97 (by decide)) ?_
              obtain ⟨g7, hm⟩ := gd_e hm
              refine zm_iald o rfl dX3_guess_98 g7 ?_
              refine zQ.s (fun h => zs_iconst (v := 1) o dX3_guess_99 (by decide)) ?_
              refine zQ.s (fun h => zs_iadd o dX3_guess_100) ?_
              obtain ⟨g8, hm⟩ := gd_e hm
              refine zm_iald o rfl dX3_guess_101 g8 ?_
              refine zm_reti o f dX3_guess_102 rfl (by omega) (by omega) ((so_e hm).trans hR9.symm)
        · have hm := if_e1 hm c
          refine zQ.fg (zl_s (zl_s (zl_n zl_0))) ?_
          exact hj57 _ _ _ _ (by omega) (by omega) hm
    · have hm := if_e1 hm c
      refine zQ.fg (zl_s (zl_s (zl_n zl_0))) ?_
      exact hj19 _ _ _ _ (by omega) (by omega) hm

def m_pushes_j47 (S : MS) (x1 : Int32) : Option MS :=
  gd (inb (0 : Int32) 5) <|
  gd (inb (0 : Int32) 5) <|
  lt (tA S 28 (ix (0 : Int32)) ((mA S 28 (ix (0 : Int32))) + (1 : Int32))) fun S3 =>
  gd (inb (0 : Int32) 5) <|
  gd (inb (mA S3 28 (ix (0 : Int32))) 5) <|
  lt (tA S3 28 (ix (mA S3 28 (ix (0 : Int32)))) x1) fun S6 =>
  some S6
def m_pushes_b12 (k12 : MS → Int32 → Int32 → Option MS) (S : MS) (x1 : Int32) (x2 : Int32) : Option MS :=
  if (4 : Int32) ≤ x2 then
    gd (inb (0 : Int32) 5) <|
    gd (inb (0 : Int32) 5) <|
    lt (tA S 28 (ix (0 : Int32)) ((mA S 28 (ix (0 : Int32))) - (1 : Int32))) fun S3 =>
    m_pushes_j47 S3 x1
  else
    gd (inb (x2 + (1 : Int32)) 5) <|
    gd (inb x2 5) <|
    lt (tA S 28 (ix x2) (mA S 28 (ix (x2 + (1 : Int32))))) fun S6 =>
    k12 S6 x1 (x2 + (1 : Int32))
def m_pushes_l12 : Nat → MS → Int32 → Int32 → Option MS
  | 0 => fun _ _ _ => none
  | n + 1 => m_pushes_b12 (m_pushes_l12 n)
def m_pushes (S : MS) (a1 : Int32) : Option MS :=
  gd (inb (0 : Int32) 5) <|
  if (mA S 28 (ix (0 : Int32))) = (4 : Int32) then
    m_pushes_l12 100 S a1 (1 : Int32)
  else
    m_pushes_j47 S a1

set_option maxHeartbeats 40000000 in
theorem M_pushes (G : zG) (p : Nat) (g : MG) (q n : Nat) (S : MS) (a1 : Int32) (S9 : MS) (hm : m_pushes S a1 = some S9) : zMv G yX3_pushes cX3_pushes 3 none 0 0 0 p g q n [.int a1] S S9 := by
  intro h0 h hI0
  refine zCo.st [some (zrf p), some (.int a1), none] rfl rfl (by simp only [zarg_r, zarg_i, zarg_l, zarg_0]; rfl) (fun X o f0 hin hw0 => ?_)
  have f := f0.e
  refine (?_ : zQ (IM h0 p g q n S) G X 0 0 0 [some (zrf p), some (.int a1), none] []) h hI0 hw0
  clear hI0 hw0
  generalize hR9 : (S9 : MS) = R at hm
  have hj47 : ∀ (S : MS) (x1 : Int32) (cl sl : Nat), cl + (0) ≤ 0 → sl + (0) ≤ 0 → m_pushes_j47 S x1 = some R → zQ (IM h0 p g q n S) G X cl sl 47 [some (zrf p), some (.int x1), none] [] := by
    intro S x1 cl sl hc hs hm
    unfold m_pushes_j47 at hm
    refine zQ.s (fun h => zs_aload_n (i := 0) o dX3_pushes_47 rfl rfl) ?_
    refine zm_getR o fl_X3_80_3 rfl dX3_pushes_48 ?_
    refine zQ.s (fun h => zs_iconst (v := 0) o dX3_pushes_51 (by decide)) ?_
    refine zQ.s (fun h => zs_dup2_11 o dX3_pushes_52 (by first | rfl | exact zrf_cat _) (by first | rfl | exact zrf_cat _)) ?_
    obtain ⟨g1, hm⟩ := gd_e hm
    refine zm_iald o rfl dX3_pushes_53 g1 ?_
    refine zQ.s (fun h => zs_iconst (v := 1) o dX3_pushes_54 (by decide)) ?_
    refine zQ.s (fun h => zs_iadd o dX3_pushes_55) ?_
    obtain ⟨g2, hm⟩ := gd_e hm
    obtain ⟨S3, e_S3, hm⟩ := lt_e hm
    refine zm_iast o rfl dX3_pushes_56 g2 e_S3 ?_
    refine zQ.s (fun h => zs_aload_n (i := 0) o dX3_pushes_57 rfl rfl) ?_
    refine zm_getR o fl_X3_80_3 rfl dX3_pushes_58 ?_
    refine zQ.s (fun h => zs_aload_n (i := 0) o dX3_pushes_61 rfl rfl) ?_
    refine zm_getR o fl_X3_80_3 rfl dX3_pushes_62 ?_
    refine zQ.s (fun h => zs_iconst (v := 0) o dX3_pushes_65 (by decide)) ?_
    obtain ⟨g4, hm⟩ := gd_e hm
    refine zm_iald o rfl dX3_pushes_66 g4 ?_
    refine zQ.s (fun h => zs_iload_n (i := 1) o dX3_pushes_67 rfl rfl) ?_
    obtain ⟨g5, hm⟩ := gd_e hm
    obtain ⟨S6, e_S6, hm⟩ := lt_e hm
    refine zm_iast o rfl dX3_pushes_68 g5 e_S6 ?_
    refine zm_retv o f dX3_pushes_69 (by omega) (by omega) ((so_e hm).trans hR9.symm)
  have hl12 : ∀ (n12 : Nat), n12 ≤ 100 → ∀ (S : MS) (x1 : Int32) (x2 : Int32) (cl sl : Nat), cl + (0) ≤ 0 → sl + (0) ≤ 0 → m_pushes_l12 n12 S x1 x2 = some R → zQ (IM h0 p g q n S) G X cl sl 12 [some (zrf p), some (.int x1), some (.int x2)] [] := by
    intro n12
    induction n12 with
    | zero => intro _ S x1 x2 cl sl _ _ hm; exact no_e hm
    | succ n12 ih =>
      intro hf12
      have ih12 := ih (by omega)
      intro S x1 x2 cl sl hc hs hm
      have hm : m_pushes_b12 (m_pushes_l12 n12) S x1 x2 = some R := hm
      unfold m_pushes_b12 at hm
      refine zQ.s (fun h => zs_iload_n (i := 2) o dX3_pushes_12 rfl rfl) ?_
      refine zQ.s (fun h => zs_iconst (v := 4) o dX3_pushes_13 (by decide)) ?_
      refine zQ.b (fun h => zs_icmp_ge (tgt := 37) o dX3_pushes_14 (by decide)) (fun c => ?_) (fun c => ?_)
      · have hm := if_e1 hm c
        refine zQ.s (fun h => zs_aload_n (i := 0) o dX3_pushes_37 rfl rfl) ?_
        refine zm_getR o fl_X3_80_3 rfl dX3_pushes_38 ?_
        refine zQ.s (fun h => zs_iconst (v := 0) o dX3_pushes_41 (by decide)) ?_
        refine zQ.s (fun h => zs_dup2_11 o dX3_pushes_42 (by first | rfl | exact zrf_cat _) (by first | rfl | exact zrf_cat _)) ?_
        obtain ⟨g1, hm⟩ := gd_e hm
        refine zm_iald o rfl dX3_pushes_43 g1 ?_
        refine zQ.s (fun h => zs_iconst (v := 1) o dX3_pushes_44 (by decide)) ?_
        refine zQ.s (fun h => zs_isub o dX3_pushes_45) ?_
        obtain ⟨g2, hm⟩ := gd_e hm
        obtain ⟨S3, e_S3, hm⟩ := lt_e hm
        refine zm_iast o rfl dX3_pushes_46 g2 e_S3 ?_
        refine zQ.fg (zl_s (zl_s (zl_n zl_0))) ?_
        exact hj47 _ _ _ _ (by omega) (by omega) hm
      · have hm := if_e2 hm c
        refine zQ.s (fun h => zs_aload_n (i := 0) o dX3_pushes_17 rfl rfl) ?_
        refine zm_getR o fl_X3_80_3 rfl dX3_pushes_18 ?_
        refine zQ.s (fun h => zs_iload_n (i := 2) o dX3_pushes_21 rfl rfl) ?_
        refine zQ.s (fun h => zs_aload_n (i := 0) o dX3_pushes_22 rfl rfl) ?_
        refine zm_getR o fl_X3_80_3 rfl dX3_pushes_23 ?_
        refine zQ.s (fun h => zs_iload_n (i := 2) o dX3_pushes_26 rfl rfl) ?_
        refine zQ.s (fun h => zs_iconst (v := 1) o dX3_pushes_27 (by decide)) ?_
        refine zQ.s (fun h => zs_iadd o dX3_pushes_28) ?_
        obtain ⟨g4, hm⟩ := gd_e hm
        refine zm_iald o rfl dX3_pushes_29 g4 ?_
        obtain ⟨g5, hm⟩ := gd_e hm
        obtain ⟨S6, e_S6, hm⟩ := lt_e hm
        refine zm_iast o rfl dX3_pushes_30 g5 e_S6 ?_
        refine zQ.s (fun h => zs_iinc (i := 2) (v := x2 + (1 : Int32)) o dX3_pushes_31 rfl rfl (by decide) (Or.inr rfl) (by simp only [List.set_cons_succ, List.set_cons_zero]; rfl)) ?_
        refine zQ.s (fun h => zs_goto (tgt := 12) o dX3_pushes_34 (by decide)) ?_
        exact ih12 _ _ _ _ _ (by omega) (by omega) hm
  unfold m_pushes at hm
  refine zQ.s (fun h => zs_aload_n (i := 0) o dX3_pushes_0 rfl rfl) ?_
  refine zm_getR o fl_X3_80_3 rfl dX3_pushes_1 ?_
  refine zQ.s (fun h => zs_iconst (v := 0) o dX3_pushes_4 (by decide)) ?_
  obtain ⟨g1, hm⟩ := gd_e hm
  refine zm_iald o rfl dX3_pushes_5 g1 ?_
  refine zQ.s (fun h => zs_iconst (v := 4) o dX3_pushes_6 (by decide)) ?_
  refine zQ.b (fun h => zs_icmp_ne (tgt := 47) o dX3_pushes_7 (by decide)) (fun c => ?_) (fun c => ?_)
  · have hm := if_e2 hm c
    exact hj47 _ _ _ _ (by omega) (by omega) hm
  · have hm := if_e1 hm c
    refine zQ.s (fun h => zs_iconst (v := 1) o dX3_pushes_10 (by decide)) ?_
    refine zQ.s (fun h => zs_istore_n (i := 2) o dX3_pushes_11 rfl (by decide) (Or.inr rfl) (by simp only [List.set_cons_succ, List.set_cons_zero]; rfl)) ?_
    exact hl12 100 (Nat.le_refl _) _ _ _ _ _ (by omega) (by omega) hm

def m_keepsStack_b2 (k2 : MS → Nat → Int32 → Int32 → Option MS) (S : MS) (x1 : Nat) (x2 : Int32) (x3 : Int32) : Option MS :=
  if (4 : Int32) < x3 then
    some S
  else
    gd (inb x3 5) <|
    gd (inb (x2 + x3) 28) <|
    lt (tL S x1 (ix (x2 + x3)) (mA S 28 (ix x3))) fun S3 =>
    k2 S3 x1 x2 (x3 + (1 : Int32))
def m_keepsStack_l2 : Nat → MS → Nat → Int32 → Int32 → Option MS
  | 0 => fun _ _ _ _ => none
  | n + 1 => m_keepsStack_b2 (m_keepsStack_l2 n)
def m_keepsStack (S : MS) (a1 : Nat) (a2 : Int32) : Option MS :=
  m_keepsStack_l2 100 S a1 a2 (0 : Int32)

set_option maxHeartbeats 40000000 in
theorem M_keepsStack (G : zG) (p : Nat) (g : MG) (q n : Nat) (S : MS) (a1 : Nat) (a2 : Int32) (h_a1 : a1 < 8) (S9 : MS) (hm : m_keepsStack S a1 a2 = some S9) : zMv G yX3_keepsStack cX3_keepsStack 4 none 0 0 0 p g q n [zrf (g.2.2 a1), .int a2] S S9 := by
  intro h0 h hI0
  refine zCo.st [some (zrf p), some (zrf (g.2.2 a1)), some (.int a2), none] rfl rfl (by simp only [zarg_r, zarg_i, zarg_l, zarg_0]; rfl) (fun X o f0 hin hw0 => ?_)
  have f := f0.e
  refine (?_ : zQ (IM h0 p g q n S) G X 0 0 0 [some (zrf p), some (zrf (g.2.2 a1)), some (.int a2), none] []) h hI0 hw0
  clear hI0 hw0
  generalize hR9 : (S9 : MS) = R at hm
  have hl2 : ∀ (n2 : Nat), n2 ≤ 100 → ∀ (S : MS) (x1 : Nat) (x2 : Int32) (x3 : Int32) (cl sl : Nat), cl + (0) ≤ 0 → sl + (0) ≤ 0 → x1 < 8 → m_keepsStack_l2 n2 S x1 x2 x3 = some R → zQ (IM h0 p g q n S) G X cl sl 2 [some (zrf p), some (zrf (g.2.2 x1)), some (.int x2), some (.int x3)] [] := by
    intro n2
    induction n2 with
    | zero => intro _ S x1 x2 x3 cl sl _ _ h_x1 hm; exact no_e hm
    | succ n2 ih =>
      intro hf2
      have ih2 := ih (by omega)
      intro S x1 x2 x3 cl sl hc hs h_x1 hm
      have hm : m_keepsStack_b2 (m_keepsStack_l2 n2) S x1 x2 x3 = some R := hm
      unfold m_keepsStack_b2 at hm
      refine zQ.s (fun h => zs_iload_n (i := 3) o dX3_keepsStack_2 rfl rfl) ?_
      refine zQ.s (fun h => zs_iconst (v := 4) o dX3_keepsStack_3 (by decide)) ?_
      refine zQ.b (fun h => zs_icmp_gt (tgt := 24) o dX3_keepsStack_4 (by decide)) (fun c => ?_) (fun c => ?_)
      · have hm := if_e1 hm c
        refine zm_retv o f dX3_keepsStack_24 (by omega) (by omega) ((so_e hm).trans hR9.symm)
      · have hm := if_e2 hm c
        refine zQ.s (fun h => zs_aload_n (i := 1) o dX3_keepsStack_7 rfl rfl) ?_
        refine zQ.s (fun h => zs_iload_n (i := 2) o dX3_keepsStack_8 rfl rfl) ?_
        refine zQ.s (fun h => zs_iload_n (i := 3) o dX3_keepsStack_9 rfl rfl) ?_
        refine zQ.s (fun h => zs_iadd o dX3_keepsStack_10) ?_
        refine zQ.s (fun h => zs_aload_n (i := 0) o dX3_keepsStack_11 rfl rfl) ?_
        refine zm_getR o fl_X3_80_3 rfl dX3_keepsStack_12 ?_
        refine zQ.s (fun h => zs_iload_n (i := 3) o dX3_keepsStack_15 rfl rfl) ?_
        obtain ⟨g1, hm⟩ := gd_e hm
        refine zm_iald o rfl dX3_keepsStack_16 g1 ?_
        obtain ⟨g2, hm⟩ := gd_e hm
        obtain ⟨S3, e_S3, hm⟩ := lt_e hm
        refine zm_last o h_x1 dX3_keepsStack_17 g2 e_S3 ?_
        refine zQ.s (fun h => zs_iinc (i := 3) (v := x3 + (1 : Int32)) o dX3_keepsStack_18 rfl rfl (by decide) (Or.inr rfl) (by simp only [List.set_cons_succ, List.set_cons_zero]; rfl)) ?_
        refine zQ.s (fun h => zs_goto (tgt := 2) o dX3_keepsStack_21 (by decide)) ?_
        exact ih2 _ _ _ _ _ _ (by omega) (by omega) h_x1 hm
  unfold m_keepsStack at hm
  refine zQ.s (fun h => zs_iconst (v := 0) o dX3_keepsStack_0 (by decide)) ?_
  refine zQ.s (fun h => zs_istore_n (i := 3) o dX3_keepsStack_1 rfl (by decide) (Or.inr rfl) (by simp only [List.set_cons_succ, List.set_cons_zero]; rfl)) ?_
  exact hl2 100 (Nat.le_refl _) _ _ _ _ _ _ (by omega) (by omega) h_a1 hm

def m_stackAs_b2 (k2 : MS → Nat → Int32 → Int32 → Option MS) (S : MS) (x1 : Nat) (x2 : Int32) (x3 : Int32) : Option MS :=
  if (4 : Int32) < x3 then
    some S
  else
    gd (inb (x2 + x3) 28) <|
    gd (inb x3 5) <|
    lt (tA S 28 (ix x3) (mB S x1 (ix (x2 + x3)))) fun S3 =>
    k2 S3 x1 x2 (x3 + (1 : Int32))
def m_stackAs_l2 : Nat → MS → Nat → Int32 → Int32 → Option MS
  | 0 => fun _ _ _ _ => none
  | n + 1 => m_stackAs_b2 (m_stackAs_l2 n)
def m_stackAs (S : MS) (a1 : Nat) (a2 : Int32) : Option MS :=
  m_stackAs_l2 100 S a1 a2 (0 : Int32)

set_option maxHeartbeats 40000000 in
theorem M_stackAs (G : zG) (p : Nat) (g : MG) (q n : Nat) (S : MS) (a1 : Nat) (a2 : Int32) (h_a1 : a1 < 16) (S9 : MS) (hm : m_stackAs S a1 a2 = some S9) : zMv G yX3_stackAs cX3_stackAs 4 none 0 0 0 p g q n [zrf (g.2.1 a1), .int a2] S S9 := by
  intro h0 h hI0
  refine zCo.st [some (zrf p), some (zrf (g.2.1 a1)), some (.int a2), none] rfl rfl (by simp only [zarg_r, zarg_i, zarg_l, zarg_0]; rfl) (fun X o f0 hin hw0 => ?_)
  have f := f0.e
  refine (?_ : zQ (IM h0 p g q n S) G X 0 0 0 [some (zrf p), some (zrf (g.2.1 a1)), some (.int a2), none] []) h hI0 hw0
  clear hI0 hw0
  generalize hR9 : (S9 : MS) = R at hm
  have hl2 : ∀ (n2 : Nat), n2 ≤ 100 → ∀ (S : MS) (x1 : Nat) (x2 : Int32) (x3 : Int32) (cl sl : Nat), cl + (0) ≤ 0 → sl + (0) ≤ 0 → x1 < 16 → m_stackAs_l2 n2 S x1 x2 x3 = some R → zQ (IM h0 p g q n S) G X cl sl 2 [some (zrf p), some (zrf (g.2.1 x1)), some (.int x2), some (.int x3)] [] := by
    intro n2
    induction n2 with
    | zero => intro _ S x1 x2 x3 cl sl _ _ h_x1 hm; exact no_e hm
    | succ n2 ih =>
      intro hf2
      have ih2 := ih (by omega)
      intro S x1 x2 x3 cl sl hc hs h_x1 hm
      have hm : m_stackAs_b2 (m_stackAs_l2 n2) S x1 x2 x3 = some R := hm
      unfold m_stackAs_b2 at hm
      refine zQ.s (fun h => zs_iload_n (i := 3) o dX3_stackAs_2 rfl rfl) ?_
      refine zQ.s (fun h => zs_iconst (v := 4) o dX3_stackAs_3 (by decide)) ?_
      refine zQ.b (fun h => zs_icmp_gt (tgt := 24) o dX3_stackAs_4 (by decide)) (fun c => ?_) (fun c => ?_)
      · have hm := if_e1 hm c
        refine zm_retv o f dX3_stackAs_24 (by omega) (by omega) ((so_e hm).trans hR9.symm)
      · have hm := if_e2 hm c
        refine zQ.s (fun h => zs_aload_n (i := 0) o dX3_stackAs_7 rfl rfl) ?_
        refine zm_getR o fl_X3_80_3 rfl dX3_stackAs_8 ?_
        refine zQ.s (fun h => zs_iload_n (i := 3) o dX3_stackAs_11 rfl rfl) ?_
        refine zQ.s (fun h => zs_aload_n (i := 1) o dX3_stackAs_12 rfl rfl) ?_
        refine zQ.s (fun h => zs_iload_n (i := 2) o dX3_stackAs_13 rfl rfl) ?_
        refine zQ.s (fun h => zs_iload_n (i := 3) o dX3_stackAs_14 rfl rfl) ?_
        refine zQ.s (fun h => zs_iadd o dX3_stackAs_15) ?_
        obtain ⟨g1, hm⟩ := gd_e hm
        refine zm_rald o h_x1 dX3_stackAs_16 g1 ?_
        obtain ⟨g2, hm⟩ := gd_e hm
        obtain ⟨S3, e_S3, hm⟩ := lt_e hm
        refine zm_iast o rfl dX3_stackAs_17 g2 e_S3 ?_
        refine zQ.s (fun h => zs_iinc (i := 3) (v := x3 + (1 : Int32)) o dX3_stackAs_18 rfl rfl (by decide) (Or.inr rfl) (by simp only [List.set_cons_succ, List.set_cons_zero]; rfl)) ?_
        refine zQ.s (fun h => zs_goto (tgt := 2) o dX3_stackAs_21 (by decide)) ?_
        exact ih2 _ _ _ _ _ _ (by omega) (by omega) h_x1 hm
  unfold m_stackAs at hm
  refine zQ.s (fun h => zs_iconst (v := 0) o dX3_stackAs_0 (by decide)) ?_
  refine zQ.s (fun h => zs_istore_n (i := 3) o dX3_stackAs_1 rfl (by decide) (Or.inr rfl) (by simp only [List.set_cons_succ, List.set_cons_zero]; rfl)) ?_
  exact hl2 100 (Nat.le_refl _) _ _ _ _ _ _ (by omega) (by omega) h_a1 hm

def m_fetches_j223 (k4 : MS → Int32 → Int32 → Option MS) (S : MS) (x2 : Int32) (s0 : Int32) : Option MS :=
  k4 S s0 (x2 + (1 : Int32))
def m_fetches_j204 (k4 : MS → Int32 → Int32 → Option MS) (S : MS) (x2 : Int32) (x4 : Int32) (s1 : Int32) : Option MS :=
  gd (b01 s1) <|
  lt (tS S 27 s1) fun S2 =>
  if (mS S2 26) = (x4 + (1 : Int32)) then
    m_fetches_j223 k4 S2 x2 (1 : Int32)
  else
    m_fetches_j223 k4 S2 x2 (0 : Int32)
def m_fetches_j199 (k4 : MS → Int32 → Int32 → Option MS) (S : MS) (x2 : Int32) (x4 : Int32) : Option MS :=
  m_fetches_j204 k4 S x2 x4 (1 : Int32)
def m_fetches_j160 (k4 : MS → Int32 → Int32 → Option MS) (S : MS) (x2 : Int32) (x3 : Nat) (x4 : Int32) : Option MS :=
  bd (m_keepsStack S x3 (23 : Int32)) fun y1 =>
  gd (inb (5 : Int32) 28) <|
  lt (tS y1 26 (mL y1 x3 (ix (5 : Int32)))) fun S3 =>
  gd (inb x4 64) <|
  if (mA S3 0 (ix x4)) = (18 : Int32) then
    m_fetches_j199 k4 S3 x2 x4
  else
    gd (inb x4 64) <|
    if (mA S3 0 (ix x4)) = (21 : Int32) then
      m_fetches_j199 k4 S3 x2 x4
    else
      m_fetches_j204 k4 S3 x2 x4 (0 : Int32)
def m_fetches_b70 (k4 : MS → Int32 → Int32 → Option MS) (k70 : MS → Int32 → Nat → Int32 → Option MS) (S : MS) (x2 : Int32) (x3 : Nat) (x4 : Int32) : Option MS :=
  if (28 : Int32) ≤ x4 then
    lt (mS S 26) fun v1 =>
    gd (inb (0 : Int32) 28) <|
    lt (tL S x3 (ix (0 : Int32)) v1) fun S3 =>
    gd (inb (1 : Int32) 28) <|
    lt (tL S3 x3 (ix (1 : Int32)) (mS S3 36)) fun S5 =>
    gd (inb (17 : Int32) 28) <|
    lt (tL S5 x3 (ix (17 : Int32)) (mS S5 42)) fun S7 =>
    lt (tS S7 42 ((mS S7 42) + (1 : Int32))) fun S8 =>
    bd (m_keepsStack S8 x3 (18 : Int32)) fun y9 =>
    bd (m_guess y9 v1) fun y10 =>
    gd (inb (5 : Int32) 28) <|
    lt (tL y10.1 x3 (ix (5 : Int32)) y10.2) fun S12 =>
    gd (inb v1 64) <|
    if (mA S12 0 (ix v1)) = (15 : Int32) then
      bd (m_pushes S12 (v1 + (1 : Int32))) fun y14 =>
      m_fetches_j160 k4 y14 x2 x3 v1
    else
      m_fetches_j160 k4 S12 x2 x3 v1
  else
    gd (inb x4 28) <|
    lt (tL S x3 (ix x4) (0 : Int32)) fun S16 =>
    k70 S16 x2 x3 (x4 + (1 : Int32))
def m_fetches_l70 (k4 : MS → Int32 → Int32 → Option MS) : Nat → MS → Int32 → Nat → Int32 → Option MS
  | 0 => fun _ _ _ _ => none
  | n + 1 => m_fetches_b70 k4 (m_fetches_l70 k4 n)
def m_fetches_j230 (S : MS) : Option MS :=
  some S
def m_fetches_b4 (k4 : MS → Int32 → Int32 → Option MS) (S : MS) (x1 : Int32) (x2 : Int32) : Option MS :=
  if (mS S 6) ≤ x2 then
    m_fetches_j230 S
  else
    if x1 = (0 : Int32) then
      m_fetches_j230 S
    else
      if (mS S 27) = (0 : Int32) then
        if ((2 : Int32) * (mS S 6)) ≤ (mS S 25) then
          m_fetches_j230 S
        else
          if (mS S 5) ≤ (mS S 26) then
            m_fetches_j230 S
          else
            gd (inb (mS S 25) 8) <|
            lt (ix (mS S 25)) fun r2 =>
            lt (tS S 25 ((mS S 25) + (1 : Int32))) fun S3 =>
            m_fetches_l70 k4 100 S3 x2 r2 (0 : Int32)
      else
        m_fetches_j230 S
def m_fetches_l4 : Nat → MS → Int32 → Int32 → Option MS
  | 0 => fun _ _ _ => none
  | n + 1 => m_fetches_b4 (m_fetches_l4 n)
def m_fetches (S : MS) : Option MS :=
  m_fetches_l4 100 S (1 : Int32) (0 : Int32)

set_option maxHeartbeats 40000000 in
theorem M_fetches (G : zG) (p : Nat) (g : MG) (q n : Nat) (S : MS) (S9 : MS) (hm : m_fetches S = some S9) : zMv G yX3_fetches cX3_fetches 5 none 1 0 0 p g q n [] S S9 := by
  intro h0 h hI0
  refine zCo.st [some (zrf p), none, none, none, none] rfl rfl (by simp only [zarg_r, zarg_i, zarg_l, zarg_0]; rfl) (fun X o f0 hin hw0 => ?_)
  have f := f0.e
  refine (?_ : zQ (IM h0 p g q n S) G X 0 0 0 [some (zrf p), none, none, none, none] []) h hI0 hw0
  clear hI0 hw0
  generalize hR9 : (S9 : MS) = R at hm
  have hj230 : ∀ (S : MS) (cl sl : Nat), cl + (0) ≤ 0 → sl + (0) ≤ 0 → m_fetches_j230 S = some R → zQ (IM h0 p g q n S) G X cl sl 230 [none, none, none, none, none] [] := by
    intro S cl sl hc hs hm
    unfold m_fetches_j230 at hm
    refine zm_retv o f dX3_fetches_230 (by omega) (by omega) ((so_e hm).trans hR9.symm)
  have hl4 : ∀ (n4 : Nat), n4 ≤ 100 → ∀ (S : MS) (x1 : Int32) (x2 : Int32) (cl sl : Nat), cl + (0) ≤ 0 → sl + (0) ≤ 0 → m_fetches_l4 n4 S x1 x2 = some R → zQ (IM h0 p g q n S) G X cl sl 4 [some (zrf p), some (.int x1), some (.int x2), none, none] [] := by
    intro n4
    induction n4 with
    | zero => intro _ S x1 x2 cl sl _ _ hm; exact no_e hm
    | succ n4 ih =>
      intro hf4
      have ih4 := ih (by omega)
      have hj223 : ∀ (S : MS) (x2 : Int32) (s0 : Int32) (cl sl : Nat), cl + (0) ≤ 0 → sl + (0) ≤ 0 → m_fetches_j223 (m_fetches_l4 n4) S x2 s0 = some R → zQ (IM h0 p g q n S) G X cl sl 223 [some (zrf p), none, some (.int x2), none, none] [.int s0] := by
        intro S x2 s0 cl sl hc hs hm
        unfold m_fetches_j223 at hm
        refine zQ.s (fun h => zs_istore_n (i := 1) o dX3_fetches_223 rfl (by decide) (Or.inr (zc2_ref rfl)) (by simp only [List.set_cons_succ, List.set_cons_zero]; rfl)) ?_
        refine zQ.s (fun h => zs_iinc (i := 2) (v := x2 + (1 : Int32)) o dX3_fetches_224 rfl rfl (by decide) (Or.inr rfl) (by simp only [List.set_cons_succ, List.set_cons_zero]; rfl)) ?_
        refine zQ.s (fun h => zs_goto (tgt := 4) o dX3_fetches_227 (by decide)) ?_
        exact ih4 _ _ _ _ _ (by omega) (by omega) hm
      have hj204 : ∀ (S : MS) (x2 : Int32) (x4 : Int32) (s1 : Int32) (cl sl : Nat), cl + (0) ≤ 0 → sl + (0) ≤ 0 → m_fetches_j204 (m_fetches_l4 n4) S x2 x4 s1 = some R → zQ (IM h0 p g q n S) G X cl sl 204 [some (zrf p), none, some (.int x2), none, some (.int x4)] [.int s1, zrf p] := by
        intro S x2 x4 s1 cl sl hc hs hm
        unfold m_fetches_j204 at hm
        obtain ⟨g1, hm⟩ := gd_e hm
        obtain ⟨S2, e_S2, hm⟩ := lt_e hm
        refine zm_putI o fl_X3_174_3 rfl rfl (b01_e g1) dX3_fetches_204 e_S2 ?_
        refine zQ.s (fun h => zs_aload_n (i := 0) o dX3_fetches_207 rfl rfl) ?_
        refine zm_getI o fl_X3_180_3 rfl dX3_fetches_208 ?_
        refine zQ.s (fun h => zs_iload (i := 4) o dX3_fetches_211 rfl) ?_
        refine zQ.s (fun h => zs_iconst (v := 1) o dX3_fetches_213 (by decide)) ?_
        refine zQ.s (fun h => zs_iadd o dX3_fetches_214) ?_
        refine zQ.b (fun h => zs_icmp_ne (tgt := 222) o dX3_fetches_215 (by decide)) (fun c => ?_) (fun c => ?_)
        · have hm := if_e2 hm c
          refine zQ.s (fun h => zs_iconst (v := 0) o dX3_fetches_222 (by decide)) ?_
          refine zQ.fg (zl_s (zl_n (zl_s (zl_n (zl_n zl_0))))) ?_
          exact hj223 _ _ _ _ _ (by omega) (by omega) hm
        · have hm := if_e1 hm c
          refine zQ.s (fun h => zs_iconst (v := 1) o dX3_fetches_218 (by decide)) ?_
          refine zQ.s (fun h => zs_goto (tgt := 223) o dX3_fetches_219 (by decide)) ?_
          refine zQ.fg (zl_s (zl_n (zl_s (zl_n (zl_n zl_0))))) ?_
          exact hj223 _ _ _ _ _ (by omega) (by omega) hm
      have hj199 : ∀ (S : MS) (x2 : Int32) (x4 : Int32) (cl sl : Nat), cl + (0) ≤ 0 → sl + (0) ≤ 0 → m_fetches_j199 (m_fetches_l4 n4) S x2 x4 = some R → zQ (IM h0 p g q n S) G X cl sl 199 [some (zrf p), none, some (.int x2), none, some (.int x4)] [zrf p] := by
        intro S x2 x4 cl sl hc hs hm
        unfold m_fetches_j199 at hm
        refine zQ.s (fun h => zs_iconst (v := 1) o dX3_fetches_199 (by decide)) ?_
        refine zQ.s (fun h => zs_goto (tgt := 204) o dX3_fetches_200 (by decide)) ?_
        exact hj204 _ _ _ _ _ _ (by omega) (by omega) hm
      have hj160 : ∀ (S : MS) (x2 : Int32) (x3 : Nat) (x4 : Int32) (cl sl : Nat), cl + (0) ≤ 0 → sl + (0) ≤ 0 → x3 < 8 → m_fetches_j160 (m_fetches_l4 n4) S x2 x3 x4 = some R → zQ (IM h0 p g q n S) G X cl sl 160 [some (zrf p), none, some (.int x2), some (zrf (g.2.2 x3)), some (.int x4)] [] := by
        intro S x2 x3 x4 cl sl hc hs h_x3 hm
        unfold m_fetches_j160 at hm
        refine zQ.s (fun h => zs_aload_n (i := 0) o dX3_fetches_160 rfl rfl) ?_
        refine zQ.s (fun h => zs_aload_n (i := 3) o dX3_fetches_161 rfl rfl) ?_
        refine zQ.s (fun h => zs_bipush (v := 23) o dX3_fetches_162 (by decide)) ?_
        obtain ⟨y1, c_y1, hm⟩ := bd_e hm
        refine zm_Vv o ml_X3_186 (M_keepsStack G p g _ _ _ _ _ h_x3 _ c_y1) dX3_fetches_164 rfl rfl rfl rfl (by omega) (by omega) ?_
        refine zQ.s (fun h => zs_aload_n (i := 0) o dX3_fetches_167 rfl rfl) ?_
        refine zQ.s (fun h => zs_aload_n (i := 3) o dX3_fetches_168 rfl rfl) ?_
        refine zQ.s (fun h => zs_iconst (v := 5) o dX3_fetches_169 (by decide)) ?_
        obtain ⟨g2, hm⟩ := gd_e hm
        refine zm_lald o h_x3 dX3_fetches_170 g2 ?_
        obtain ⟨S3, e_S3, hm⟩ := lt_e hm
        refine zm_putI o fl_X3_180_3 rfl rfl ⟨rfl, rfl⟩ dX3_fetches_171 e_S3 ?_
        refine zQ.s (fun h => zs_aload_n (i := 0) o dX3_fetches_174 rfl rfl) ?_
        refine zQ.s (fun h => zs_aload_n (i := 0) o dX3_fetches_175 rfl rfl) ?_
        refine zm_getR o fl_X3_9_3 rfl dX3_fetches_176 ?_
        refine zQ.s (fun h => zs_iload (i := 4) o dX3_fetches_179 rfl) ?_
        obtain ⟨g4, hm⟩ := gd_e hm
        refine zm_iald o rfl dX3_fetches_181 g4 ?_
        refine zQ.s (fun h => zs_bipush (v := 18) o dX3_fetches_182 (by decide)) ?_
        refine zQ.b (fun h => zs_icmp_eq (tgt := 199) o dX3_fetches_184 (by decide)) (fun c => ?_) (fun c => ?_)
        · have hm := if_e1 hm c
          refine zQ.fg (zl_s (zl_n (zl_s (zl_n (zl_s zl_0))))) ?_
          exact hj199 _ _ _ _ _ (by omega) (by omega) hm
        · have hm := if_e2 hm c
          refine zQ.s (fun h => zs_aload_n (i := 0) o dX3_fetches_187 rfl rfl) ?_
          refine zm_getR o fl_X3_9_3 rfl dX3_fetches_188 ?_
          refine zQ.s (fun h => zs_iload (i := 4) o dX3_fetches_191 rfl) ?_
          obtain ⟨g5, hm⟩ := gd_e hm
          refine zm_iald o rfl dX3_fetches_193 g5 ?_
          refine zQ.s (fun h => zs_bipush (v := 21) o dX3_fetches_194 (by decide)) ?_
          refine zQ.b (fun h => zs_icmp_ne (tgt := 203) o dX3_fetches_196 (by decide)) (fun c => ?_) (fun c => ?_)
          · have hm := if_e2 hm c
            refine zQ.s (fun h => zs_iconst (v := 0) o dX3_fetches_203 (by decide)) ?_
            refine zQ.fg (zl_s (zl_n (zl_s (zl_n (zl_s zl_0))))) ?_
            exact hj204 _ _ _ _ _ _ (by omega) (by omega) hm
          · have hm := if_e1 hm c
            refine zQ.fg (zl_s (zl_n (zl_s (zl_n (zl_s zl_0))))) ?_
            exact hj199 _ _ _ _ _ (by omega) (by omega) hm
      have hl70 : ∀ (n70 : Nat), n70 ≤ 100 → ∀ (S : MS) (x2 : Int32) (x3 : Nat) (x4 : Int32) (cl sl : Nat), cl + (0) ≤ 0 → sl + (0) ≤ 0 → x3 < 8 → m_fetches_l70 (m_fetches_l4 n4) n70 S x2 x3 x4 = some R → zQ (IM h0 p g q n S) G X cl sl 70 [some (zrf p), none, some (.int x2), some (zrf (g.2.2 x3)), some (.int x4)] [] := by
        intro n70
        induction n70 with
        | zero => intro _ S x2 x3 x4 cl sl _ _ h_x3 hm; exact no_e hm
        | succ n70 ih =>
          intro hf70
          have ih70 := ih (by omega)
          intro S x2 x3 x4 cl sl hc hs h_x3 hm
          have hm : m_fetches_b70 (m_fetches_l4 n4) (m_fetches_l70 (m_fetches_l4 n4) n70) S x2 x3 x4 = some R := hm
          unfold m_fetches_b70 at hm
          refine zQ.s (fun h => zs_iload (i := 4) o dX3_fetches_70 rfl) ?_
          refine zQ.s (fun h => zs_bipush (v := 28) o dX3_fetches_72 (by decide)) ?_
          refine zQ.b (fun h => zs_icmp_ge (tgt := 88) o dX3_fetches_74 (by decide)) (fun c => ?_) (fun c => ?_)
          · have hm := if_e1 hm c
            refine zQ.s (fun h => zs_aload_n (i := 0) o dX3_fetches_88 rfl rfl) ?_
            refine zm_getI o fl_X3_180_3 rfl dX3_fetches_89 ?_
            obtain ⟨v1, e_v1, hm⟩ := lt_e hm
            refine zQ.nmi e_v1 ?_
            refine zQ.s (fun h => zs_istore (i := 4) o dX3_fetches_92 (by decide) (Or.inr (zc2_ref rfl)) (by simp only [List.set_cons_succ, List.set_cons_zero]; rfl)) ?_
            refine zQ.s (fun h => zs_aload_n (i := 3) o dX3_fetches_94 rfl rfl) ?_
            refine zQ.s (fun h => zs_iconst (v := 0) o dX3_fetches_95 (by decide)) ?_
            refine zQ.s (fun h => zs_iload (i := 4) o dX3_fetches_96 rfl) ?_
            obtain ⟨g2, hm⟩ := gd_e hm
            obtain ⟨S3, e_S3, hm⟩ := lt_e hm
            refine zm_last o h_x3 dX3_fetches_98 g2 e_S3 ?_
            refine zQ.s (fun h => zs_aload_n (i := 3) o dX3_fetches_99 rfl rfl) ?_
            refine zQ.s (fun h => zs_iconst (v := 1) o dX3_fetches_100 (by decide)) ?_
            refine zQ.s (fun h => zs_aload_n (i := 0) o dX3_fetches_101 rfl rfl) ?_
            refine zm_getI o fl_X3_133_3 rfl dX3_fetches_102 ?_
            obtain ⟨g4, hm⟩ := gd_e hm
            obtain ⟨S5, e_S5, hm⟩ := lt_e hm
            refine zm_last o h_x3 dX3_fetches_105 g4 e_S5 ?_
            refine zQ.s (fun h => zs_aload_n (i := 3) o dX3_fetches_106 rfl rfl) ?_
            refine zQ.s (fun h => zs_bipush (v := 17) o dX3_fetches_107 (by decide)) ?_
            refine zQ.s (fun h => zs_aload_n (i := 0) o dX3_fetches_109 rfl rfl) ?_
            refine zm_getI o fl_X3_183_3 rfl dX3_fetches_110 ?_
            obtain ⟨g6, hm⟩ := gd_e hm
            obtain ⟨S7, e_S7, hm⟩ := lt_e hm
            refine zm_last o h_x3 dX3_fetches_113 g6 e_S7 ?_
            refine zQ.s (fun h => zs_aload_n (i := 0) o dX3_fetches_114 rfl rfl) ?_
            refine zQ.s (fun h => zs_dup o dX3_fetches_115 (by first | rfl | exact zrf_cat _)) ?_
            refine zm_getI o fl_X3_183_3 rfl dX3_fetches_116 ?_
            refine zQ.s (fun h => zs_iconst (v := 1) o dX3_fetches_119 (by decide)) ?_
            refine zQ.s (fun h => zs_iadd o dX3_fetches_120) ?_
            obtain ⟨S8, e_S8, hm⟩ := lt_e hm
            refine zm_putI o fl_X3_183_3 rfl rfl ⟨rfl, rfl⟩ dX3_fetches_121 e_S8 ?_
            refine zQ.s (fun h => zs_aload_n (i := 0) o dX3_fetches_124 rfl rfl) ?_
            refine zQ.s (fun h => zs_aload_n (i := 3) o dX3_fetches_125 rfl rfl) ?_
            refine zQ.s (fun h => zs_bipush (v := 18) o dX3_fetches_126 (by decide)) ?_
            obtain ⟨y9, c_y9, hm⟩ := bd_e hm
            refine zm_Vv o ml_X3_186 (M_keepsStack G p g _ _ _ _ _ h_x3 _ c_y9) dX3_fetches_128 rfl rfl rfl rfl (by omega) (by omega) ?_
            refine zQ.s (fun h => zs_aload_n (i := 3) o dX3_fetches_131 rfl rfl) ?_
            refine zQ.s (fun h => zs_iconst (v := 5) o dX3_fetches_132 (by decide)) ?_
            refine zQ.s (fun h => zs_aload_n (i := 0) o dX3_fetches_133 rfl rfl) ?_
            refine zQ.s (fun h => zs_iload (i := 4) o dX3_fetches_134 rfl) ?_
            obtain ⟨y10, c_y10, hm⟩ := bd_e hm
            refine zm_Vi o ml_X3_190 (M_guess G p g _ _ _ _ _ _ c_y10) dX3_fetches_136 rfl rfl rfl rfl (by omega) (by omega) ?_
            obtain ⟨g11, hm⟩ := gd_e hm
            obtain ⟨S12, e_S12, hm⟩ := lt_e hm
            refine zm_last o h_x3 dX3_fetches_139 g11 e_S12 ?_
            refine zQ.s (fun h => zs_aload_n (i := 0) o dX3_fetches_140 rfl rfl) ?_
            refine zm_getR o fl_X3_9_3 rfl dX3_fetches_141 ?_
            refine zQ.s (fun h => zs_iload (i := 4) o dX3_fetches_144 rfl) ?_
            obtain ⟨g13, hm⟩ := gd_e hm
            refine zm_iald o rfl dX3_fetches_146 g13 ?_
            refine zQ.s (fun h => zs_bipush (v := 15) o dX3_fetches_147 (by decide)) ?_
            refine zQ.b (fun h => zs_icmp_ne (tgt := 160) o dX3_fetches_149 (by decide)) (fun c => ?_) (fun c => ?_)
            · have hm := if_e2 hm c
              exact hj160 _ _ _ _ _ _ (by omega) (by omega) h_x3 hm
            · have hm := if_e1 hm c
              refine zQ.s (fun h => zs_aload_n (i := 0) o dX3_fetches_152 rfl rfl) ?_
              refine zQ.s (fun h => zs_iload (i := 4) o dX3_fetches_153 rfl) ?_
              refine zQ.s (fun h => zs_iconst (v := 1) o dX3_fetches_155 (by decide)) ?_
              refine zQ.s (fun h => zs_iadd o dX3_fetches_156) ?_
              obtain ⟨y14, c_y14, hm⟩ := bd_e hm
              refine zm_Vv o ml_X3_194 (M_pushes G p g _ _ _ _ _ c_y14) dX3_fetches_157 rfl rfl rfl rfl (by omega) (by omega) ?_
              exact hj160 _ _ _ _ _ _ (by omega) (by omega) h_x3 hm
          · have hm := if_e2 hm c
            refine zQ.s (fun h => zs_aload_n (i := 3) o dX3_fetches_77 rfl rfl) ?_
            refine zQ.s (fun h => zs_iload (i := 4) o dX3_fetches_78 rfl) ?_
            refine zQ.s (fun h => zs_iconst (v := 0) o dX3_fetches_80 (by decide)) ?_
            obtain ⟨g15, hm⟩ := gd_e hm
            obtain ⟨S16, e_S16, hm⟩ := lt_e hm
            refine zm_last o h_x3 dX3_fetches_81 g15 e_S16 ?_
            refine zQ.s (fun h => zs_iinc (i := 4) (v := x4 + (1 : Int32)) o dX3_fetches_82 rfl rfl (by decide) (Or.inr (zc2_ref rfl)) (by simp only [List.set_cons_succ, List.set_cons_zero]; rfl)) ?_
            refine zQ.s (fun h => zs_goto (tgt := 70) o dX3_fetches_85 (by decide)) ?_
            exact ih70 _ _ _ _ _ _ (by omega) (by omega) h_x3 hm
      intro S x1 x2 cl sl hc hs hm
      have hm : m_fetches_b4 (m_fetches_l4 n4) S x1 x2 = some R := hm
      unfold m_fetches_b4 at hm
      refine zQ.s (fun h => zs_iload_n (i := 2) o dX3_fetches_4 rfl rfl) ?_
      refine zQ.s (fun h => zs_aload_n (i := 0) o dX3_fetches_5 rfl rfl) ?_
      refine zm_getI o fl_X3_25_3 rfl dX3_fetches_6 ?_
      refine zQ.b (fun h => zs_icmp_ge (tgt := 230) o dX3_fetches_9 (by decide)) (fun c => ?_) (fun c => ?_)
      · have hm := if_e1 hm c
        refine zQ.fg (zl_n (zl_n (zl_n (zl_n (zl_n zl_0))))) ?_
        exact hj230 _ _ _ (by omega) (by omega) hm
      · have hm := if_e2 hm c
        refine zQ.s (fun h => zs_iload_n (i := 1) o dX3_fetches_12 rfl rfl) ?_
        refine zQ.b (fun h => zs_if_eq (tgt := 230) o dX3_fetches_13 (by decide)) (fun c => ?_) (fun c => ?_)
        · have hm := if_e1 hm c
          refine zQ.fg (zl_n (zl_n (zl_n (zl_n (zl_n zl_0))))) ?_
          exact hj230 _ _ _ (by omega) (by omega) hm
        · have hm := if_e2 hm c
          refine zQ.s (fun h => zs_aload_n (i := 0) o dX3_fetches_16 rfl rfl) ?_
          refine zm_getI o fl_X3_174_3 rfl dX3_fetches_17 ?_
          refine zQ.b (fun h => zs_if_ne (tgt := 230) o dX3_fetches_20 (by decide)) (fun c => ?_) (fun c => ?_)
          · have hm := if_e2 hm c
            refine zQ.fg (zl_n (zl_n (zl_n (zl_n (zl_n zl_0))))) ?_
            exact hj230 _ _ _ (by omega) (by omega) hm
          · have hm := if_e1 hm c
            refine zQ.s (fun h => zs_aload_n (i := 0) o dX3_fetches_23 rfl rfl) ?_
            refine zm_getI o fl_X3_177_3 rfl dX3_fetches_24 ?_
            refine zQ.s (fun h => zs_iconst (v := 2) o dX3_fetches_27 (by decide)) ?_
            refine zQ.s (fun h => zs_aload_n (i := 0) o dX3_fetches_28 rfl rfl) ?_
            refine zm_getI o fl_X3_25_3 rfl dX3_fetches_29 ?_
            refine zQ.s (fun h => zs_imul o dX3_fetches_32) ?_
            refine zQ.b (fun h => zs_icmp_ge (tgt := 230) o dX3_fetches_33 (by decide)) (fun c => ?_) (fun c => ?_)
            · have hm := if_e1 hm c
              refine zQ.fg (zl_n (zl_n (zl_n (zl_n (zl_n zl_0))))) ?_
              exact hj230 _ _ _ (by omega) (by omega) hm
            · have hm := if_e2 hm c
              refine zQ.s (fun h => zs_aload_n (i := 0) o dX3_fetches_36 rfl rfl) ?_
              refine zm_getI o fl_X3_180_3 rfl dX3_fetches_37 ?_
              refine zQ.s (fun h => zs_aload_n (i := 0) o dX3_fetches_40 rfl rfl) ?_
              refine zm_getI o fl_X3_136_3 rfl dX3_fetches_41 ?_
              refine zQ.b (fun h => zs_icmp_ge (tgt := 230) o dX3_fetches_44 (by decide)) (fun c => ?_) (fun c => ?_)
              · have hm := if_e1 hm c
                refine zQ.fg (zl_n (zl_n (zl_n (zl_n (zl_n zl_0))))) ?_
                exact hj230 _ _ _ (by omega) (by omega) hm
              · have hm := if_e2 hm c
                refine zQ.s (fun h => zs_aload_n (i := 0) o dX3_fetches_47 rfl rfl) ?_
                refine zm_getR o fl_X3_77_3 rfl dX3_fetches_48 ?_
                refine zQ.s (fun h => zs_aload_n (i := 0) o dX3_fetches_51 rfl rfl) ?_
                refine zm_getI o fl_X3_177_3 rfl dX3_fetches_52 ?_
                obtain ⟨g1, hm⟩ := gd_e hm
                obtain ⟨r2, e_r2, hm⟩ := lt_e hm
                refine zm_lrow o dX3_fetches_55 g1 e_r2 (fun h_r2 => ?_)
                refine zQ.s (fun h => zs_astore_n (i := 3) o dX3_fetches_56 rfl (by decide) (Or.inr rfl) (by simp only [List.set_cons_succ, List.set_cons_zero]; rfl)) ?_
                refine zQ.s (fun h => zs_aload_n (i := 0) o dX3_fetches_57 rfl rfl) ?_
                refine zQ.s (fun h => zs_dup o dX3_fetches_58 (by first | rfl | exact zrf_cat _)) ?_
                refine zm_getI o fl_X3_177_3 rfl dX3_fetches_59 ?_
                refine zQ.s (fun h => zs_iconst (v := 1) o dX3_fetches_62 (by decide)) ?_
                refine zQ.s (fun h => zs_iadd o dX3_fetches_63) ?_
                obtain ⟨S3, e_S3, hm⟩ := lt_e hm
                refine zm_putI o fl_X3_177_3 rfl rfl ⟨rfl, rfl⟩ dX3_fetches_64 e_S3 ?_
                refine zQ.s (fun h => zs_iconst (v := 0) o dX3_fetches_67 (by decide)) ?_
                refine zQ.s (fun h => zs_istore (i := 4) o dX3_fetches_68 (by decide) (Or.inr (zc2_ref rfl)) (by simp only [List.set_cons_succ, List.set_cons_zero]; rfl)) ?_
                refine zQ.fg (zl_s (zl_n (zl_s (zl_s (zl_s zl_0))))) ?_
                exact hl70 100 (Nat.le_refl _) _ _ _ _ _ _ (by omega) (by omega) h_r2 hm
  unfold m_fetches at hm
  refine zQ.s (fun h => zs_iconst (v := 1) o dX3_fetches_0 (by decide)) ?_
  refine zQ.s (fun h => zs_istore_n (i := 1) o dX3_fetches_1 rfl (by decide) (Or.inr (zc2_ref rfl)) (by simp only [List.set_cons_succ, List.set_cons_zero]; rfl)) ?_
  refine zQ.s (fun h => zs_iconst (v := 0) o dX3_fetches_2 (by decide)) ?_
  refine zQ.s (fun h => zs_istore_n (i := 2) o dX3_fetches_3 rfl (by decide) (Or.inr rfl) (by simp only [List.set_cons_succ, List.set_cons_zero]; rfl)) ?_
  exact hl4 100 (Nat.le_refl _) _ _ _ _ _ (by omega) (by omega) hm

def m_goesOn (S : MS) (a1 : Int32) : Option MS :=
  lt (tS S 26 a1) fun S1 =>
  lt (tS S1 27 (0 : Int32)) fun S2 =>
  lt (tS S2 25 (0 : Int32)) fun S3 =>
  some S3

set_option maxHeartbeats 40000000 in
theorem M_goesOn (G : zG) (p : Nat) (g : MG) (q n : Nat) (S : MS) (a1 : Int32) (S9 : MS) (hm : m_goesOn S a1 = some S9) : zMv G yX3_goesOn cX3_goesOn 2 none 0 0 0 p g q n [.int a1] S S9 := by
  intro h0 h hI0
  refine zCo.st [some (zrf p), some (.int a1)] rfl rfl (by simp only [zarg_r, zarg_i, zarg_l, zarg_0]; rfl) (fun X o f0 hin hw0 => ?_)
  have f := f0.e
  refine (?_ : zQ (IM h0 p g q n S) G X 0 0 0 [some (zrf p), some (.int a1)] []) h hI0 hw0
  clear hI0 hw0
  generalize hR9 : (S9 : MS) = R at hm
  unfold m_goesOn at hm
  refine zQ.s (fun h => zs_aload_n (i := 0) o dX3_goesOn_0 rfl rfl) ?_
  refine zQ.s (fun h => zs_iload_n (i := 1) o dX3_goesOn_1 rfl rfl) ?_
  obtain ⟨S1, e_S1, hm⟩ := lt_e hm
  refine zm_putI o fl_X3_180_3 rfl rfl ⟨rfl, rfl⟩ dX3_goesOn_2 e_S1 ?_
  refine zQ.s (fun h => zs_aload_n (i := 0) o dX3_goesOn_5 rfl rfl) ?_
  refine zQ.s (fun h => zs_iconst (v := 0) o dX3_goesOn_6 (by decide)) ?_
  obtain ⟨S2, e_S2, hm⟩ := lt_e hm
  refine zm_putI o fl_X3_174_3 rfl rfl ⟨rfl, rfl⟩ dX3_goesOn_7 e_S2 ?_
  refine zQ.s (fun h => zs_aload_n (i := 0) o dX3_goesOn_10 rfl rfl) ?_
  refine zQ.s (fun h => zs_iconst (v := 0) o dX3_goesOn_11 (by decide)) ?_
  obtain ⟨S3, e_S3, hm⟩ := lt_e hm
  refine zm_putI o fl_X3_177_3 rfl rfl ⟨rfl, rfl⟩ dX3_goesOn_12 e_S3 ?_
  refine zm_retv o f dX3_goesOn_15 (by omega) (by omega) ((so_e hm).trans hR9.symm)

def m_inQueueNow_j32 (k4 : MS → Int32 → Int32 → Option (MS × Int32)) (S : MS) (x2 : Int32) (s1 : Int32) (s0 : Int32) : Option (MS × Int32) :=
  lt (s0 + s1) fun v1 =>
  k4 S v1 (x2 + (1 : Int32))
def m_inQueueNow_b4 (k4 : MS → Int32 → Int32 → Option (MS × Int32)) (S : MS) (x1 : Int32) (x2 : Int32) : Option (MS × Int32) :=
  if (mS S 23) ≤ x2 then
    some (S, x1)
  else
    gd (inb x2 16) <|
    lt (mM S (ix x2)) fun r2 =>
    gd (inb (11 : Int32) 28) <|
    if (mB S r2 (ix (11 : Int32))) = (113 : Int32) then
      m_inQueueNow_j32 k4 S x2 (1 : Int32) x1
    else
      m_inQueueNow_j32 k4 S x2 (0 : Int32) x1
def m_inQueueNow_l4 : Nat → MS → Int32 → Int32 → Option (MS × Int32)
  | 0 => fun _ _ _ => none
  | n + 1 => m_inQueueNow_b4 (m_inQueueNow_l4 n)
def m_inQueueNow (S : MS) : Option (MS × Int32) :=
  m_inQueueNow_l4 100 S (0 : Int32) (0 : Int32)

set_option maxHeartbeats 40000000 in
theorem M_inQueueNow (G : zG) (p : Nat) (g : MG) (q n : Nat) (S : MS) (V : Int32) (S9 : MS) (hm : m_inQueueNow S = some (S9, V)) : zMi G yX3_inQueueNow cX3_inQueueNow 3 (some .int) 0 0 0 p g q n [] S V S9 := by
  intro h0 h hI0
  refine zCo.st [some (zrf p), none, none] rfl rfl (by simp only [zarg_r, zarg_i, zarg_l, zarg_0]; rfl) (fun X o f0 hin hw0 => ?_)
  have f := f0.e
  refine (?_ : zQ (IM h0 p g q n S) G X 0 0 0 [some (zrf p), none, none] []) h hI0 hw0
  clear hI0 hw0
  generalize hR9 : ((S9, V) : (MS × Int32)) = R at hm
  have hl4 : ∀ (n4 : Nat), n4 ≤ 100 → ∀ (S : MS) (x1 : Int32) (x2 : Int32) (cl sl : Nat), cl + (0) ≤ 0 → sl + (0) ≤ 0 → m_inQueueNow_l4 n4 S x1 x2 = some R → zQ (IM h0 p g q n S) G X cl sl 4 [some (zrf p), some (.int x1), some (.int x2)] [] := by
    intro n4
    induction n4 with
    | zero => intro _ S x1 x2 cl sl _ _ hm; exact no_e hm
    | succ n4 ih =>
      intro hf4
      have ih4 := ih (by omega)
      have hj32 : ∀ (S : MS) (x2 : Int32) (s1 : Int32) (s0 : Int32) (cl sl : Nat), cl + (0) ≤ 0 → sl + (0) ≤ 0 → m_inQueueNow_j32 (m_inQueueNow_l4 n4) S x2 s1 s0 = some R → zQ (IM h0 p g q n S) G X cl sl 32 [some (zrf p), none, some (.int x2)] [.int s1, .int s0] := by
        intro S x2 s1 s0 cl sl hc hs hm
        unfold m_inQueueNow_j32 at hm
        refine zQ.s (fun h => zs_iadd o dX3_inQueueNow_32) ?_
        obtain ⟨v1, e_v1, hm⟩ := lt_e hm
        refine zQ.nmi e_v1 ?_
        refine zQ.s (fun h => zs_istore_n (i := 1) o dX3_inQueueNow_33 rfl (by decide) (Or.inr (zc2_ref rfl)) (by simp only [List.set_cons_succ, List.set_cons_zero]; rfl)) ?_
        refine zQ.s (fun h => zs_iinc (i := 2) (v := x2 + (1 : Int32)) o dX3_inQueueNow_34 rfl rfl (by decide) (Or.inr rfl) (by simp only [List.set_cons_succ, List.set_cons_zero]; rfl)) ?_
        refine zQ.s (fun h => zs_goto (tgt := 4) o dX3_inQueueNow_37 (by decide)) ?_
        exact ih4 _ _ _ _ _ (by omega) (by omega) hm
      intro S x1 x2 cl sl hc hs hm
      have hm : m_inQueueNow_b4 (m_inQueueNow_l4 n4) S x1 x2 = some R := hm
      unfold m_inQueueNow_b4 at hm
      refine zQ.s (fun h => zs_iload_n (i := 2) o dX3_inQueueNow_4 rfl rfl) ?_
      refine zQ.s (fun h => zs_aload_n (i := 0) o dX3_inQueueNow_5 rfl rfl) ?_
      refine zm_getI o fl_X3_198_3 rfl dX3_inQueueNow_6 ?_
      refine zQ.b (fun h => zs_icmp_ge (tgt := 40) o dX3_inQueueNow_9 (by decide)) (fun c => ?_) (fun c => ?_)
      · have hm := if_e1 hm c
        refine zQ.s (fun h => zs_iload_n (i := 1) o dX3_inQueueNow_40 rfl rfl) ?_
        refine zm_reti o f dX3_inQueueNow_41 rfl (by omega) (by omega) ((so_e hm).trans hR9.symm)
      · have hm := if_e2 hm c
        refine zQ.s (fun h => zs_iload_n (i := 1) o dX3_inQueueNow_12 rfl rfl) ?_
        refine zQ.s (fun h => zs_aload_n (i := 0) o dX3_inQueueNow_13 rfl rfl) ?_
        refine zm_getR o fl_X3_74_3 rfl dX3_inQueueNow_14 ?_
        refine zQ.s (fun h => zs_iload_n (i := 2) o dX3_inQueueNow_17 rfl rfl) ?_
        obtain ⟨g1, hm⟩ := gd_e hm
        obtain ⟨r2, e_r2, hm⟩ := lt_e hm
        refine zm_row o dX3_inQueueNow_18 g1 e_r2 (fun h_r2 => ?_)
        refine zQ.s (fun h => zs_bipush (v := 11) o dX3_inQueueNow_19 (by decide)) ?_
        obtain ⟨g3, hm⟩ := gd_e hm
        refine zm_rald o h_r2 dX3_inQueueNow_21 g3 ?_
        refine zQ.s (fun h => zs_bipush (v := 113) o dX3_inQueueNow_22 (by decide)) ?_
        refine zQ.b (fun h => zs_icmp_ne (tgt := 31) o dX3_inQueueNow_24 (by decide)) (fun c => ?_) (fun c => ?_)
        · have hm := if_e2 hm c
          refine zQ.s (fun h => zs_iconst (v := 0) o dX3_inQueueNow_31 (by decide)) ?_
          refine zQ.fg (zl_s (zl_n (zl_s zl_0))) ?_
          exact hj32 _ _ _ _ _ _ (by omega) (by omega) hm
        · have hm := if_e1 hm c
          refine zQ.s (fun h => zs_iconst (v := 1) o dX3_inQueueNow_27 (by decide)) ?_
          refine zQ.s (fun h => zs_goto (tgt := 32) o dX3_inQueueNow_28 (by decide)) ?_
          refine zQ.fg (zl_s (zl_n (zl_s zl_0))) ?_
          exact hj32 _ _ _ _ _ _ (by omega) (by omega) hm
  unfold m_inQueueNow at hm
  refine zQ.s (fun h => zs_iconst (v := 0) o dX3_inQueueNow_0 (by decide)) ?_
  refine zQ.s (fun h => zs_istore_n (i := 1) o dX3_inQueueNow_1 rfl (by decide) (Or.inr (zc2_ref rfl)) (by simp only [List.set_cons_succ, List.set_cons_zero]; rfl)) ?_
  refine zQ.s (fun h => zs_iconst (v := 0) o dX3_inQueueNow_2 (by decide)) ?_
  refine zQ.s (fun h => zs_istore_n (i := 2) o dX3_inQueueNow_3 rfl (by decide) (Or.inr rfl) (by simp only [List.set_cons_succ, List.set_cons_zero]; rfl)) ?_
  exact hl4 100 (Nat.le_refl _) _ _ _ _ _ (by omega) (by omega) hm

def m_canRename_j37 (k4 : MS → Int32 → Int32 → Int32 → Option (MS × Int32)) (S : MS) (x1 : Int32) (x3 : Int32) (s0 : Int32) : Option (MS × Int32) :=
  k4 S x1 s0 (x3 + (1 : Int32))
def m_canRename_j32 (k4 : MS → Int32 → Int32 → Int32 → Option (MS × Int32)) (S : MS) (x1 : Int32) (x3 : Int32) : Option (MS × Int32) :=
  m_canRename_j37 k4 S x1 x3 (1 : Int32)
def m_canRename_j120 (S : MS) (s0 : Int32) : Option (MS × Int32) :=
  gd (b01 s0) <|
  some (S, s0)
def m_canRename_j115 (S : MS) : Option (MS × Int32) :=
  m_canRename_j120 S (1 : Int32)
def m_canRename_j119 (S : MS) : Option (MS × Int32) :=
  m_canRename_j120 S (0 : Int32)
def m_canRename_j92 (S : MS) (x1 : Int32) (x2 : Int32) (s0 : Int32) : Option (MS × Int32) :=
  if s0 = (0 : Int32) then
    if x2 = (0 : Int32) then
      bd (m_isAlone x1) fun y1 =>
      if y1 = (0 : Int32) then
        m_canRename_j115 S
      else
        if (mS S 23) = (0 : Int32) then
          m_canRename_j115 S
        else
          m_canRename_j119 S
    else
      m_canRename_j119 S
  else
    m_canRename_j119 S
def m_canRename_j87 (S : MS) (x1 : Int32) (x2 : Int32) : Option (MS × Int32) :=
  m_canRename_j92 S x1 x2 (1 : Int32)
def m_canRename_j91 (S : MS) (x1 : Int32) (x2 : Int32) : Option (MS × Int32) :=
  m_canRename_j92 S x1 x2 (0 : Int32)
def m_canRename_j69 (S : MS) (x1 : Int32) (x2 : Int32) : Option (MS × Int32) :=
  bd (m_isQueued x1) fun y1 =>
  if y1 = (0 : Int32) then
    m_canRename_j91 S x1 x2
  else
    bd (m_inQueueNow S) fun y2 =>
    if y2.2 = (mS y2.1 8) then
      m_canRename_j87 y2.1 x1 x2
    else
      m_canRename_j91 y2.1 x1 x2
def m_canRename_b4 (k4 : MS → Int32 → Int32 → Int32 → Option (MS × Int32)) (S : MS) (x1 : Int32) (x2 : Int32) (x3 : Int32) : Option (MS × Int32) :=
  if (mS S 23) ≤ x3 then
    if (mS S 23) = (mS S 7) then
      m_canRename_j87 S x1 x2
    else
      bd (m_hasD x1) fun y1 =>
      if y1 = (0 : Int32) then
        m_canRename_j69 S x1 x2
      else
        if (mS S 21) = (0 : Int32) then
          m_canRename_j87 S x1 x2
        else
          m_canRename_j69 S x1 x2
  else
    if x2 = (0 : Int32) then
      gd (inb x3 16) <|
      lt (mM S (ix x3)) fun r3 =>
      bd (m_codeOf S r3) fun y4 =>
      bd (m_isAlone y4.2) fun y5 =>
      if y5 = (0 : Int32) then
        m_canRename_j37 k4 y4.1 x1 x3 (0 : Int32)
      else
        m_canRename_j32 k4 y4.1 x1 x3
    else
      m_canRename_j32 k4 S x1 x3
def m_canRename_l4 : Nat → MS → Int32 → Int32 → Int32 → Option (MS × Int32)
  | 0 => fun _ _ _ _ => none
  | n + 1 => m_canRename_b4 (m_canRename_l4 n)
def m_canRename (S : MS) (a1 : Int32) : Option (MS × Int32) :=
  m_canRename_l4 100 S a1 (0 : Int32) (0 : Int32)

set_option maxHeartbeats 40000000 in
theorem M_canRename (G : zG) (p : Nat) (g : MG) (q n : Nat) (S : MS) (a1 : Int32) (V : Int32) (S9 : MS) (hm : m_canRename S a1 = some (S9, V)) : zMi G yX3_canRename cX3_canRename 4 (some .boolean) 2 0 0 p g q n [.int a1] S V S9 := by
  intro h0 h hI0
  refine zCo.st [some (zrf p), some (.int a1), none, none] rfl rfl (by simp only [zarg_r, zarg_i, zarg_l, zarg_0]; rfl) (fun X o f0 hin hw0 => ?_)
  have f := f0.e
  refine (?_ : zQ (IM h0 p g q n S) G X 0 0 0 [some (zrf p), some (.int a1), none, none] []) h hI0 hw0
  clear hI0 hw0
  generalize hR9 : ((S9, V) : (MS × Int32)) = R at hm
  have hj120 : ∀ (S : MS) (s0 : Int32) (cl sl : Nat), cl + (0) ≤ 0 → sl + (0) ≤ 0 → m_canRename_j120 S s0 = some R → zQ (IM h0 p g q n S) G X cl sl 120 [none, none, none, none] [.int s0] := by
    intro S s0 cl sl hc hs hm
    unfold m_canRename_j120 at hm
    obtain ⟨g1, hm⟩ := gd_e hm
    refine zm_reti o f dX3_canRename_120 (b01_e g1).1 (by omega) (by omega) ((so_e hm).trans hR9.symm)
  have hj119 : ∀ (S : MS) (cl sl : Nat), cl + (0) ≤ 0 → sl + (0) ≤ 0 → m_canRename_j119 S = some R → zQ (IM h0 p g q n S) G X cl sl 119 [none, none, none, none] [] := by
    intro S cl sl hc hs hm
    unfold m_canRename_j119 at hm
    refine zQ.s (fun h => zs_iconst (v := 0) o dX3_canRename_119 (by decide)) ?_
    exact hj120 _ _ _ _ (by omega) (by omega) hm
  have hj115 : ∀ (S : MS) (cl sl : Nat), cl + (0) ≤ 0 → sl + (0) ≤ 0 → m_canRename_j115 S = some R → zQ (IM h0 p g q n S) G X cl sl 115 [none, none, none, none] [] := by
    intro S cl sl hc hs hm
    unfold m_canRename_j115 at hm
    refine zQ.s (fun h => zs_iconst (v := 1) o dX3_canRename_115 (by decide)) ?_
    refine zQ.s (fun h => zs_goto (tgt := 120) o dX3_canRename_116 (by decide)) ?_
    exact hj120 _ _ _ _ (by omega) (by omega) hm
  have hj92 : ∀ (S : MS) (x1 : Int32) (x2 : Int32) (s0 : Int32) (cl sl : Nat), cl + (0) ≤ 0 → sl + (0) ≤ 0 → m_canRename_j92 S x1 x2 s0 = some R → zQ (IM h0 p g q n S) G X cl sl 92 [some (zrf p), some (.int x1), some (.int x2), none] [.int s0] := by
    intro S x1 x2 s0 cl sl hc hs hm
    unfold m_canRename_j92 at hm
    refine zQ.s (fun h => zs_istore_n (i := 3) o dX3_canRename_92 rfl (by decide) (Or.inr rfl) (by simp only [List.set_cons_succ, List.set_cons_zero]; rfl)) ?_
    refine zQ.s (fun h => zs_iload_n (i := 3) o dX3_canRename_93 rfl rfl) ?_
    refine zQ.b (fun h => zs_if_ne (tgt := 119) o dX3_canRename_94 (by decide)) (fun c => ?_) (fun c => ?_)
    · have hm := if_e2 hm c
      refine zQ.fg (zl_n (zl_n (zl_n (zl_n zl_0)))) ?_
      exact hj119 _ _ _ (by omega) (by omega) hm
    · have hm := if_e1 hm c
      refine zQ.s (fun h => zs_iload_n (i := 2) o dX3_canRename_97 rfl rfl) ?_
      refine zQ.b (fun h => zs_if_ne (tgt := 119) o dX3_canRename_98 (by decide)) (fun c => ?_) (fun c => ?_)
      · have hm := if_e2 hm c
        refine zQ.fg (zl_n (zl_n (zl_n (zl_n zl_0)))) ?_
        exact hj119 _ _ _ (by omega) (by omega) hm
      · have hm := if_e1 hm c
        refine zQ.s (fun h => zs_iload_n (i := 1) o dX3_canRename_101 rfl rfl) ?_
        obtain ⟨y1, c_y1, hm⟩ := bd_e hm
        refine zQ_Si o ml_X3_205 (M_isAlone G _ _ c_y1) dX3_canRename_102 rfl rfl rfl rfl (by omega) (by omega) ?_
        refine zQ.b (fun h => zs_if_eq (tgt := 115) o dX3_canRename_105 (by decide)) (fun c => ?_) (fun c => ?_)
        · have hm := if_e1 hm c
          refine zQ.fg (zl_n (zl_n (zl_n (zl_n zl_0)))) ?_
          exact hj115 _ _ _ (by omega) (by omega) hm
        · have hm := if_e2 hm c
          refine zQ.s (fun h => zs_aload_n (i := 0) o dX3_canRename_108 rfl rfl) ?_
          refine zm_getI o fl_X3_198_3 rfl dX3_canRename_109 ?_
          refine zQ.b (fun h => zs_if_ne (tgt := 119) o dX3_canRename_112 (by decide)) (fun c => ?_) (fun c => ?_)
          · have hm := if_e2 hm c
            refine zQ.fg (zl_n (zl_n (zl_n (zl_n zl_0)))) ?_
            exact hj119 _ _ _ (by omega) (by omega) hm
          · have hm := if_e1 hm c
            refine zQ.fg (zl_n (zl_n (zl_n (zl_n zl_0)))) ?_
            exact hj115 _ _ _ (by omega) (by omega) hm
  have hj87 : ∀ (S : MS) (x1 : Int32) (x2 : Int32) (cl sl : Nat), cl + (0) ≤ 0 → sl + (0) ≤ 0 → m_canRename_j87 S x1 x2 = some R → zQ (IM h0 p g q n S) G X cl sl 87 [some (zrf p), some (.int x1), some (.int x2), none] [] := by
    intro S x1 x2 cl sl hc hs hm
    unfold m_canRename_j87 at hm
    refine zQ.s (fun h => zs_iconst (v := 1) o dX3_canRename_87 (by decide)) ?_
    refine zQ.s (fun h => zs_goto (tgt := 92) o dX3_canRename_88 (by decide)) ?_
    exact hj92 _ _ _ _ _ _ (by omega) (by omega) hm
  have hj91 : ∀ (S : MS) (x1 : Int32) (x2 : Int32) (cl sl : Nat), cl + (0) ≤ 0 → sl + (0) ≤ 0 → m_canRename_j91 S x1 x2 = some R → zQ (IM h0 p g q n S) G X cl sl 91 [some (zrf p), some (.int x1), some (.int x2), none] [] := by
    intro S x1 x2 cl sl hc hs hm
    unfold m_canRename_j91 at hm
    refine zQ.s (fun h => zs_iconst (v := 0) o dX3_canRename_91 (by decide)) ?_
    exact hj92 _ _ _ _ _ _ (by omega) (by omega) hm
  have hj69 : ∀ (S : MS) (x1 : Int32) (x2 : Int32) (cl sl : Nat), cl + (0) ≤ 0 → sl + (0) ≤ 0 → m_canRename_j69 S x1 x2 = some R → zQ (IM h0 p g q n S) G X cl sl 69 [some (zrf p), some (.int x1), some (.int x2), none] [] := by
    intro S x1 x2 cl sl hc hs hm
    unfold m_canRename_j69 at hm
    refine zQ.s (fun h => zs_iload_n (i := 1) o dX3_canRename_69 rfl rfl) ?_
    obtain ⟨y1, c_y1, hm⟩ := bd_e hm
    refine zQ_Si o ml_X3_212 (M_isQueued G _ _ c_y1) dX3_canRename_70 rfl rfl rfl rfl (by omega) (by omega) ?_
    refine zQ.b (fun h => zs_if_eq (tgt := 91) o dX3_canRename_73 (by decide)) (fun c => ?_) (fun c => ?_)
    · have hm := if_e1 hm c
      exact hj91 _ _ _ _ _ (by omega) (by omega) hm
    · have hm := if_e2 hm c
      refine zQ.s (fun h => zs_aload_n (i := 0) o dX3_canRename_76 rfl rfl) ?_
      obtain ⟨y2, c_y2, hm⟩ := bd_e hm
      refine zm_Vi o ml_X3_215 (M_inQueueNow G p g _ _ _ _ _ c_y2) dX3_canRename_77 rfl rfl rfl rfl (by omega) (by omega) ?_
      refine zQ.s (fun h => zs_aload_n (i := 0) o dX3_canRename_80 rfl rfl) ?_
      refine zm_getI o fl_X3_32_3 rfl dX3_canRename_81 ?_
      refine zQ.b (fun h => zs_icmp_ne (tgt := 91) o dX3_canRename_84 (by decide)) (fun c => ?_) (fun c => ?_)
      · have hm := if_e2 hm c
        exact hj91 _ _ _ _ _ (by omega) (by omega) hm
      · have hm := if_e1 hm c
        exact hj87 _ _ _ _ _ (by omega) (by omega) hm
  have hl4 : ∀ (n4 : Nat), n4 ≤ 100 → ∀ (S : MS) (x1 : Int32) (x2 : Int32) (x3 : Int32) (cl sl : Nat), cl + (0) ≤ 0 → sl + (0) ≤ 0 → m_canRename_l4 n4 S x1 x2 x3 = some R → zQ (IM h0 p g q n S) G X cl sl 4 [some (zrf p), some (.int x1), some (.int x2), some (.int x3)] [] := by
    intro n4
    induction n4 with
    | zero => intro _ S x1 x2 x3 cl sl _ _ hm; exact no_e hm
    | succ n4 ih =>
      intro hf4
      have ih4 := ih (by omega)
      have hj37 : ∀ (S : MS) (x1 : Int32) (x3 : Int32) (s0 : Int32) (cl sl : Nat), cl + (0) ≤ 0 → sl + (0) ≤ 0 → m_canRename_j37 (m_canRename_l4 n4) S x1 x3 s0 = some R → zQ (IM h0 p g q n S) G X cl sl 37 [some (zrf p), some (.int x1), none, some (.int x3)] [.int s0] := by
        intro S x1 x3 s0 cl sl hc hs hm
        unfold m_canRename_j37 at hm
        refine zQ.s (fun h => zs_istore_n (i := 2) o dX3_canRename_37 rfl (by decide) (Or.inr rfl) (by simp only [List.set_cons_succ, List.set_cons_zero]; rfl)) ?_
        refine zQ.s (fun h => zs_iinc (i := 3) (v := x3 + (1 : Int32)) o dX3_canRename_38 rfl rfl (by decide) (Or.inr rfl) (by simp only [List.set_cons_succ, List.set_cons_zero]; rfl)) ?_
        refine zQ.s (fun h => zs_goto (tgt := 4) o dX3_canRename_41 (by decide)) ?_
        exact ih4 _ _ _ _ _ _ (by omega) (by omega) hm
      have hj32 : ∀ (S : MS) (x1 : Int32) (x3 : Int32) (cl sl : Nat), cl + (0) ≤ 0 → sl + (0) ≤ 0 → m_canRename_j32 (m_canRename_l4 n4) S x1 x3 = some R → zQ (IM h0 p g q n S) G X cl sl 32 [some (zrf p), some (.int x1), none, some (.int x3)] [] := by
        intro S x1 x3 cl sl hc hs hm
        unfold m_canRename_j32 at hm
        refine zQ.s (fun h => zs_iconst (v := 1) o dX3_canRename_32 (by decide)) ?_
        refine zQ.s (fun h => zs_goto (tgt := 37) o dX3_canRename_33 (by decide)) ?_
        exact hj37 _ _ _ _ _ _ (by omega) (by omega) hm
      intro S x1 x2 x3 cl sl hc hs hm
      have hm : m_canRename_b4 (m_canRename_l4 n4) S x1 x2 x3 = some R := hm
      unfold m_canRename_b4 at hm
      refine zQ.s (fun h => zs_iload_n (i := 3) o dX3_canRename_4 rfl rfl) ?_
      refine zQ.s (fun h => zs_aload_n (i := 0) o dX3_canRename_5 rfl rfl) ?_
      refine zm_getI o fl_X3_198_3 rfl dX3_canRename_6 ?_
      refine zQ.b (fun h => zs_icmp_ge (tgt := 44) o dX3_canRename_9 (by decide)) (fun c => ?_) (fun c => ?_)
      · have hm := if_e1 hm c
        refine zQ.s (fun h => zs_aload_n (i := 0) o dX3_canRename_44 rfl rfl) ?_
        refine zm_getI o fl_X3_198_3 rfl dX3_canRename_45 ?_
        refine zQ.s (fun h => zs_aload_n (i := 0) o dX3_canRename_48 rfl rfl) ?_
        refine zm_getI o fl_X3_29_3 rfl dX3_canRename_49 ?_
        refine zQ.b (fun h => zs_icmp_eq (tgt := 87) o dX3_canRename_52 (by decide)) (fun c => ?_) (fun c => ?_)
        · have hm := if_e1 hm c
          refine zQ.fg (zl_s (zl_s (zl_s (zl_n zl_0)))) ?_
          exact hj87 _ _ _ _ _ (by omega) (by omega) hm
        · have hm := if_e2 hm c
          refine zQ.s (fun h => zs_iload_n (i := 1) o dX3_canRename_55 rfl rfl) ?_
          obtain ⟨y1, c_y1, hm⟩ := bd_e hm
          refine zQ_Si o ml_X3_209 (M_hasD G _ _ c_y1) dX3_canRename_56 rfl rfl rfl rfl (by omega) (by omega) ?_
          refine zQ.b (fun h => zs_if_eq (tgt := 69) o dX3_canRename_59 (by decide)) (fun c => ?_) (fun c => ?_)
          · have hm := if_e1 hm c
            refine zQ.fg (zl_s (zl_s (zl_s (zl_n zl_0)))) ?_
            exact hj69 _ _ _ _ _ (by omega) (by omega) hm
          · have hm := if_e2 hm c
            refine zQ.s (fun h => zs_aload_n (i := 0) o dX3_canRename_62 rfl rfl) ?_
            refine zm_getI o fl_X3_126_3 rfl dX3_canRename_63 ?_
            refine zQ.b (fun h => zs_if_eq (tgt := 87) o dX3_canRename_66 (by decide)) (fun c => ?_) (fun c => ?_)
            · have hm := if_e1 hm c
              refine zQ.fg (zl_s (zl_s (zl_s (zl_n zl_0)))) ?_
              exact hj87 _ _ _ _ _ (by omega) (by omega) hm
            · have hm := if_e2 hm c
              refine zQ.fg (zl_s (zl_s (zl_s (zl_n zl_0)))) ?_
              exact hj69 _ _ _ _ _ (by omega) (by omega) hm
      · have hm := if_e2 hm c
        refine zQ.s (fun h => zs_iload_n (i := 2) o dX3_canRename_12 rfl rfl) ?_
        refine zQ.b (fun h => zs_if_ne (tgt := 32) o dX3_canRename_13 (by decide)) (fun c => ?_) (fun c => ?_)
        · have hm := if_e2 hm c
          refine zQ.fg (zl_s (zl_s (zl_n (zl_s zl_0)))) ?_
          exact hj32 _ _ _ _ _ (by omega) (by omega) hm
        · have hm := if_e1 hm c
          refine zQ.s (fun h => zs_aload_n (i := 0) o dX3_canRename_16 rfl rfl) ?_
          refine zQ.s (fun h => zs_aload_n (i := 0) o dX3_canRename_17 rfl rfl) ?_
          refine zm_getR o fl_X3_74_3 rfl dX3_canRename_18 ?_
          refine zQ.s (fun h => zs_iload_n (i := 3) o dX3_canRename_21 rfl rfl) ?_
          obtain ⟨g2, hm⟩ := gd_e hm
          obtain ⟨r3, e_r3, hm⟩ := lt_e hm
          refine zm_row o dX3_canRename_22 g2 e_r3 (fun h_r3 => ?_)
          obtain ⟨y4, c_y4, hm⟩ := bd_e hm
          refine zm_Vi o ml_X3_201 (M_codeOf G p g _ _ _ _ h_r3 _ _ c_y4) dX3_canRename_23 rfl rfl rfl rfl (by omega) (by omega) ?_
          obtain ⟨y5, c_y5, hm⟩ := bd_e hm
          refine zQ_Si o ml_X3_205 (M_isAlone G _ _ c_y5) dX3_canRename_26 rfl rfl rfl rfl (by omega) (by omega) ?_
          refine zQ.b (fun h => zs_if_eq (tgt := 36) o dX3_canRename_29 (by decide)) (fun c => ?_) (fun c => ?_)
          · have hm := if_e1 hm c
            refine zQ.s (fun h => zs_iconst (v := 0) o dX3_canRename_36 (by decide)) ?_
            refine zQ.fg (zl_s (zl_s (zl_n (zl_s zl_0)))) ?_
            exact hj37 _ _ _ _ _ _ (by omega) (by omega) hm
          · have hm := if_e2 hm c
            refine zQ.fg (zl_s (zl_s (zl_n (zl_s zl_0)))) ?_
            exact hj32 _ _ _ _ _ (by omega) (by omega) hm
  unfold m_canRename at hm
  refine zQ.s (fun h => zs_iconst (v := 0) o dX3_canRename_0 (by decide)) ?_
  refine zQ.s (fun h => zs_istore_n (i := 2) o dX3_canRename_1 rfl (by decide) (Or.inr rfl) (by simp only [List.set_cons_succ, List.set_cons_zero]; rfl)) ?_
  refine zQ.s (fun h => zs_iconst (v := 0) o dX3_canRename_2 (by decide)) ?_
  refine zQ.s (fun h => zs_istore_n (i := 3) o dX3_canRename_3 rfl (by decide) (Or.inr rfl) (by simp only [List.set_cons_succ, List.set_cons_zero]; rfl)) ?_
  exact hl4 100 (Nat.le_refl _) _ _ _ _ _ _ (by omega) (by omega) hm

def m_renames_b105 (k2 : MS → Int32 → Option MS) (k94 : MS → Int32 → Nat → Int32 → Option MS) (k105 : MS → Int32 → Nat → Int32 → Int32 → Option MS) (S : MS) (x1 : Int32) (x2 : Nat) (x3 : Int32) (x4 : Int32) : Option MS :=
  if (28 : Int32) ≤ x4 then
    k94 S x1 x2 (x3 + (1 : Int32))
  else
    gd (inb x3 8) <|
    lt (ix x3) fun r2 =>
    gd (inb (x3 + (1 : Int32)) 8) <|
    lt (ix (x3 + (1 : Int32))) fun r4 =>
    gd (inb x4 28) <|
    gd (inb x4 28) <|
    lt (tL S r2 (ix x4) (mL S r4 (ix x4))) fun S7 =>
    k105 S7 x1 x2 x3 (x4 + (1 : Int32))
def m_renames_l105 (k2 : MS → Int32 → Option MS) (k94 : MS → Int32 → Nat → Int32 → Option MS) : Nat → MS → Int32 → Nat → Int32 → Int32 → Option MS
  | 0 => fun _ _ _ _ _ => none
  | n + 1 => m_renames_b105 k2 k94 (m_renames_l105 k2 k94 n)
def m_renames_j411 (k2 : MS → Int32 → Option MS) (S : MS) (x1 : Int32) (x2 : Nat) (s2 : Int32) (s1 : Int32) (s0 : Nat) : Option MS :=
  gd (inb s1 28) <|
  lt (tB S s0 (ix s1) s2) fun S2 =>
  gd (inb (4 : Int32) 28) <|
  lt (tB S2 x2 (ix (4 : Int32)) (mS S2 36)) fun S4 =>
  k2 S4 (x1 + (1 : Int32))
def m_renames_j393 (k2 : MS → Int32 → Option MS) (S : MS) (x1 : Int32) (x2 : Nat) (x4 : Int32) : Option MS :=
  bd (m_isQueued x4) fun y1 =>
  if y1 = (0 : Int32) then
    m_renames_j411 k2 S x1 x2 (101 : Int32) (11 : Int32) x2
  else
    m_renames_j411 k2 S x1 x2 (113 : Int32) (11 : Int32) x2
def m_renames_j392 (k2 : MS → Int32 → Option MS) (S : MS) (x1 : Int32) (x2 : Nat) (x4 : Int32) (s2 : Int32) (s1 : Int32) : Option MS :=
  gd (inb s1 24) <|
  lt (tA S 18 (ix s1) s2) fun S2 =>
  m_renames_j393 k2 S2 x1 x2 x4
def m_renames_j361 (k2 : MS → Int32 → Option MS) (S : MS) (x1 : Int32) (x2 : Nat) (x3 : Int32) (x4 : Int32) (s2 : Int32) (s1 : Int32) : Option MS :=
  gd (b01 s2) <|
  gd (inb s1 24) <|
  lt (tA S 19 (ix s1) s2) fun S3 =>
  gd (inb (9 : Int32) 28) <|
  if x4 = (15 : Int32) then
    m_renames_j392 k2 S3 x1 x2 x4 (x3 + (1 : Int32)) (mB S3 x2 (ix (9 : Int32)))
  else
    gd (inb (9 : Int32) 28) <|
    gd (inb (mB S3 x2 (ix (9 : Int32))) 24) <|
    m_renames_j392 k2 S3 x1 x2 x4 (mA S3 18 (ix (mB S3 x2 (ix (9 : Int32))))) (mB S3 x2 (ix (9 : Int32)))
def m_renames_b280 (k2 : MS → Int32 → Option MS) (k280 : MS → Int32 → Nat → Int32 → Int32 → Int32 → Option MS) (S : MS) (x1 : Int32) (x2 : Nat) (x3 : Int32) (x4 : Int32) (x5 : Int32) : Option MS :=
  if (mS S 21) ≤ x5 then
    gd (inb x3 64) <|
    gd (inb (mA S 1 (ix x3)) 8) <|
    gd (inb (10 : Int32) 28) <|
    lt (tB S x2 (ix (10 : Int32)) (mA S 16 (ix (mA S 1 (ix x3))))) fun S4 =>
    gd (inb x3 64) <|
    gd (inb (9 : Int32) 28) <|
    gd (inb (mA S4 1 (ix x3)) 8) <|
    lt (tA S4 16 (ix (mA S4 1 (ix x3))) (mB S4 x2 (ix (9 : Int32)))) fun S8 =>
    gd (inb (9 : Int32) 28) <|
    if x4 = (15 : Int32) then
      m_renames_j361 k2 S8 x1 x2 x3 x4 (1 : Int32) (mB S8 x2 (ix (9 : Int32)))
    else
      m_renames_j361 k2 S8 x1 x2 x3 x4 (0 : Int32) (mB S8 x2 (ix (9 : Int32)))
  else
    gd (inb (x5 + (1 : Int32)) 24) <|
    gd (inb x5 24) <|
    lt (tA S 20 (ix x5) (mA S 20 (ix (x5 + (1 : Int32))))) fun S12 =>
    k280 S12 x1 x2 x3 x4 (x5 + (1 : Int32))
def m_renames_l280 (k2 : MS → Int32 → Option MS) : Nat → MS → Int32 → Nat → Int32 → Int32 → Int32 → Option MS
  | 0 => fun _ _ _ _ _ _ => none
  | n + 1 => m_renames_b280 k2 (m_renames_l280 k2 n)
def m_renames_j248 (k2 : MS → Int32 → Option MS) (S : MS) (x1 : Int32) (x2 : Nat) (x3 : Int32) (x4 : Int32) (s2 : Int32) (s1 : Int32) (s0 : Nat) : Option MS :=
  gd (inb s1 28) <|
  lt (tB S s0 (ix s1) s2) fun S2 =>
  bd (m_hasD x4) fun y3 =>
  if y3 = (0 : Int32) then
    m_renames_j393 k2 S2 x1 x2 x4
  else
    gd (inb (0 : Int32) 24) <|
    gd (inb (9 : Int32) 28) <|
    lt (tB S2 x2 (ix (9 : Int32)) (mA S2 20 (ix (0 : Int32)))) fun S6 =>
    lt (tS S6 21 ((mS S6 21) - (1 : Int32))) fun S7 =>
    m_renames_l280 k2 100 S7 x1 x2 x3 x4 (0 : Int32)
def m_renames_j232 (k2 : MS → Int32 → Option MS) (S : MS) (x1 : Int32) (x2 : Nat) (x3 : Int32) (x4 : Int32) (s2 : Int32) (s1 : Int32) (s0 : Nat) : Option MS :=
  gd (inb s1 28) <|
  lt (tB S s0 (ix s1) s2) fun S2 =>
  if x4 = (20 : Int32) then
    m_renames_j248 k2 S2 x1 x2 x3 x4 (4 : Int32) (13 : Int32) x2
  else
    m_renames_j248 k2 S2 x1 x2 x3 x4 (0 : Int32) (13 : Int32) x2
def m_renames_j220 (k2 : MS → Int32 → Option MS) (S : MS) (x1 : Int32) (x2 : Nat) (x3 : Int32) (x4 : Int32) (s1 : Int32) (s0 : Nat) : Option MS :=
  gd (inb x3 64) <|
  m_renames_j232 k2 S x1 x2 x3 x4 (mA S 4 (ix x3)) s1 s0
def m_renames_b94 (k2 : MS → Int32 → Option MS) (k94 : MS → Int32 → Nat → Int32 → Option MS) (S : MS) (x1 : Int32) (x2 : Nat) (x3 : Int32) : Option MS :=
  if (mS S 25) ≤ x3 then
    gd (inb (0 : Int32) 28) <|
    lt (mB S x2 (ix (0 : Int32))) fun v2 =>
    gd (inb v2 64) <|
    lt (mA S 0 (ix v2)) fun v4 =>
    gd (inb (2 : Int32) 28) <|
    lt (tB S x2 (ix (2 : Int32)) (mS S 36)) fun S6 =>
    gd (inb v2 64) <|
    gd (inb (mA S6 2 (ix v2)) 8) <|
    gd (inb (7 : Int32) 28) <|
    lt (tB S6 x2 (ix (7 : Int32)) (mA S6 16 (ix (mA S6 2 (ix v2))))) fun S10 =>
    gd (inb v2 64) <|
    gd (inb (mA S10 3 (ix v2)) 8) <|
    gd (inb (8 : Int32) 28) <|
    lt (tB S10 x2 (ix (8 : Int32)) (mA S10 16 (ix (mA S10 3 (ix v2))))) fun S14 =>
    gd (inb (16 : Int32) 28) <|
    lt (tB S14 x2 (ix (16 : Int32)) (-1 : Int32)) fun S16 =>
    gd (inb (14 : Int32) 28) <|
    lt (tB S16 x2 (ix (14 : Int32)) (-1 : Int32)) fun S18 =>
    if v4 = (14 : Int32) then
      m_renames_j220 k2 S18 x1 x2 v2 v4 (6 : Int32) x2
    else
      if v4 = (15 : Int32) then
        m_renames_j220 k2 S18 x1 x2 v2 v4 (6 : Int32) x2
      else
        m_renames_j232 k2 S18 x1 x2 v2 v4 (v2 + (1 : Int32)) (6 : Int32) x2
  else
    m_renames_l105 k2 k94 100 S x1 x2 x3 (0 : Int32)
def m_renames_l94 (k2 : MS → Int32 → Option MS) : Nat → MS → Int32 → Nat → Int32 → Option MS
  | 0 => fun _ _ _ _ => none
  | n + 1 => m_renames_b94 k2 (m_renames_l94 k2 n)
def m_renames_b59 (k2 : MS → Int32 → Option MS) (k59 : MS → Int32 → Nat → Int32 → Option MS) (S : MS) (x1 : Int32) (x2 : Nat) (x3 : Int32) : Option MS :=
  if (28 : Int32) ≤ x3 then
    lt (tS S 25 ((mS S 25) - (1 : Int32))) fun S1 =>
    m_renames_l94 k2 100 S1 x1 x2 (0 : Int32)
  else
    gd (inb (0 : Int32) 8) <|
    lt (ix (0 : Int32)) fun r3 =>
    gd (inb x3 28) <|
    gd (inb x3 28) <|
    lt (tB S x2 (ix x3) (mL S r3 (ix x3))) fun S6 =>
    k59 S6 x1 x2 (x3 + (1 : Int32))
def m_renames_l59 (k2 : MS → Int32 → Option MS) : Nat → MS → Int32 → Nat → Int32 → Option MS
  | 0 => fun _ _ _ _ => none
  | n + 1 => m_renames_b59 k2 (m_renames_l59 k2 n)
def m_renames_j425 (S : MS) : Option MS :=
  some S
def m_renames_b2 (k2 : MS → Int32 → Option MS) (S : MS) (x1 : Int32) : Option MS :=
  if (mS S 6) ≤ x1 then
    m_renames_j425 S
  else
    if (mS S 25) ≤ (0 : Int32) then
      m_renames_j425 S
    else
      gd (inb (0 : Int32) 8) <|
      lt (ix (0 : Int32)) fun r2 =>
      gd (inb (0 : Int32) 28) <|
      gd (inb (mL S r2 (ix (0 : Int32))) 64) <|
      bd (m_canRename S (mA S 0 (ix (mL S r2 (ix (0 : Int32)))))) fun y5 =>
      if y5.2 = (0 : Int32) then
        m_renames_j425 y5.1
      else
        gd (inb (mS y5.1 23) 16) <|
        lt (mM y5.1 (ix (mS y5.1 23))) fun r7 =>
        lt (tS y5.1 23 ((mS y5.1 23) + (1 : Int32))) fun S8 =>
        m_renames_l59 k2 100 S8 x1 r7 (0 : Int32)
def m_renames_l2 : Nat → MS → Int32 → Option MS
  | 0 => fun _ _ => none
  | n + 1 => m_renames_b2 (m_renames_l2 n)
def m_renames (S : MS) : Option MS :=
  m_renames_l2 100 S (0 : Int32)

set_option maxHeartbeats 40000000 in
theorem M_renames (G : zG) (p : Nat) (g : MG) (q n : Nat) (S : MS) (S9 : MS) (hm : m_renames S = some S9) : zMv G yX3_renames cX3_renames 6 none 3 0 0 p g q n [] S S9 := by
  intro h0 h hI0
  refine zCo.st [some (zrf p), none, none, none, none, none] rfl rfl (by simp only [zarg_r, zarg_i, zarg_l, zarg_0]; rfl) (fun X o f0 hin hw0 => ?_)
  have f := f0.e
  refine (?_ : zQ (IM h0 p g q n S) G X 0 0 0 [some (zrf p), none, none, none, none, none] []) h hI0 hw0
  clear hI0 hw0
  generalize hR9 : (S9 : MS) = R at hm
  have hj425 : ∀ (S : MS) (cl sl : Nat), cl + (0) ≤ 0 → sl + (0) ≤ 0 → m_renames_j425 S = some R → zQ (IM h0 p g q n S) G X cl sl 425 [none, none, none, none, none, none] [] := by
    intro S cl sl hc hs hm
    unfold m_renames_j425 at hm
    refine zm_retv o f dX3_renames_425 (by omega) (by omega) ((so_e hm).trans hR9.symm)
  have hl2 : ∀ (n2 : Nat), n2 ≤ 100 → ∀ (S : MS) (x1 : Int32) (cl sl : Nat), cl + (0) ≤ 0 → sl + (0) ≤ 0 → m_renames_l2 n2 S x1 = some R → zQ (IM h0 p g q n S) G X cl sl 2 [some (zrf p), some (.int x1), none, none, none, none] [] := by
    intro n2
    induction n2 with
    | zero => intro _ S x1 cl sl _ _ hm; exact no_e hm
    | succ n2 ih =>
      intro hf2
      have ih2 := ih (by omega)
      have hj411 : ∀ (S : MS) (x1 : Int32) (x2 : Nat) (s2 : Int32) (s1 : Int32) (s0 : Nat) (cl sl : Nat), cl + (0) ≤ 0 → sl + (0) ≤ 0 → x2 < 16 → s0 < 16 → m_renames_j411 (m_renames_l2 n2) S x1 x2 s2 s1 s0 = some R → zQ (IM h0 p g q n S) G X cl sl 411 [some (zrf p), some (.int x1), some (zrf (g.2.1 x2)), none, none, none] [.int s2, .int s1, zrf (g.2.1 s0)] := by
        intro S x1 x2 s2 s1 s0 cl sl hc hs h_x2 h_s0 hm
        unfold m_renames_j411 at hm
        obtain ⟨g1, hm⟩ := gd_e hm
        obtain ⟨S2, e_S2, hm⟩ := lt_e hm
        refine zm_rast o h_s0 dX3_renames_411 g1 e_S2 ?_
        refine zQ.s (fun h => zs_aload_n (i := 2) o dX3_renames_412 rfl rfl) ?_
        refine zQ.s (fun h => zs_iconst (v := 4) o dX3_renames_413 (by decide)) ?_
        refine zQ.s (fun h => zs_aload_n (i := 0) o dX3_renames_414 rfl rfl) ?_
        refine zm_getI o fl_X3_133_3 rfl dX3_renames_415 ?_
        obtain ⟨g3, hm⟩ := gd_e hm
        obtain ⟨S4, e_S4, hm⟩ := lt_e hm
        refine zm_rast o h_x2 dX3_renames_418 g3 e_S4 ?_
        refine zQ.s (fun h => zs_iinc (i := 1) (v := x1 + (1 : Int32)) o dX3_renames_419 rfl rfl (by decide) (Or.inr (zc2_ref rfl)) (by simp only [List.set_cons_succ, List.set_cons_zero]; rfl)) ?_
        refine zQ.s (fun h => zs_goto (tgt := 2) o dX3_renames_422 (by decide)) ?_
        refine zQ.fg (zl_s (zl_s (zl_n (zl_n (zl_n (zl_n zl_0)))))) ?_
        exact ih2 _ _ _ _ (by omega) (by omega) hm
      have hj393 : ∀ (S : MS) (x1 : Int32) (x2 : Nat) (x4 : Int32) (cl sl : Nat), cl + (0) ≤ 0 → sl + (0) ≤ 0 → x2 < 16 → m_renames_j393 (m_renames_l2 n2) S x1 x2 x4 = some R → zQ (IM h0 p g q n S) G X cl sl 393 [some (zrf p), some (.int x1), some (zrf (g.2.1 x2)), none, some (.int x4), none] [] := by
        intro S x1 x2 x4 cl sl hc hs h_x2 hm
        unfold m_renames_j393 at hm
        refine zQ.s (fun h => zs_aload_n (i := 2) o dX3_renames_393 rfl rfl) ?_
        refine zQ.s (fun h => zs_bipush (v := 11) o dX3_renames_394 (by decide)) ?_
        refine zQ.s (fun h => zs_iload (i := 4) o dX3_renames_396 rfl) ?_
        obtain ⟨y1, c_y1, hm⟩ := bd_e hm
        refine zQ_Si o ml_X3_212 (M_isQueued G _ _ c_y1) dX3_renames_398 rfl rfl rfl rfl (by omega) (by omega) ?_
        refine zQ.b (fun h => zs_if_eq (tgt := 409) o dX3_renames_401 (by decide)) (fun c => ?_) (fun c => ?_)
        · have hm := if_e1 hm c
          refine zQ.s (fun h => zs_bipush (v := 101) o dX3_renames_409 (by decide)) ?_
          refine zQ.fg (zl_s (zl_s (zl_s (zl_n (zl_n (zl_n zl_0)))))) ?_
          exact hj411 _ _ _ _ _ _ _ _ (by omega) (by omega) h_x2 h_x2 hm
        · have hm := if_e2 hm c
          refine zQ.s (fun h => zs_bipush (v := 113) o dX3_renames_404 (by decide)) ?_
          refine zQ.s (fun h => zs_goto (tgt := 411) o dX3_renames_406 (by decide)) ?_
          refine zQ.fg (zl_s (zl_s (zl_s (zl_n (zl_n (zl_n zl_0)))))) ?_
          exact hj411 _ _ _ _ _ _ _ _ (by omega) (by omega) h_x2 h_x2 hm
      have hj392 : ∀ (S : MS) (x1 : Int32) (x2 : Nat) (x4 : Int32) (s2 : Int32) (s1 : Int32) (cl sl : Nat), cl + (0) ≤ 0 → sl + (0) ≤ 0 → x2 < 16 → m_renames_j392 (m_renames_l2 n2) S x1 x2 x4 s2 s1 = some R → zQ (IM h0 p g q n S) G X cl sl 392 [some (zrf p), some (.int x1), some (zrf (g.2.1 x2)), none, some (.int x4), none] [.int s2, .int s1, zrf (g.1 18)] := by
        intro S x1 x2 x4 s2 s1 cl sl hc hs h_x2 hm
        unfold m_renames_j392 at hm
        obtain ⟨g1, hm⟩ := gd_e hm
        obtain ⟨S2, e_S2, hm⟩ := lt_e hm
        refine zm_iast o rfl dX3_renames_392 g1 e_S2 ?_
        exact hj393 _ _ _ _ _ _ (by omega) (by omega) h_x2 hm
      have hj361 : ∀ (S : MS) (x1 : Int32) (x2 : Nat) (x3 : Int32) (x4 : Int32) (s2 : Int32) (s1 : Int32) (cl sl : Nat), cl + (0) ≤ 0 → sl + (0) ≤ 0 → x2 < 16 → m_renames_j361 (m_renames_l2 n2) S x1 x2 x3 x4 s2 s1 = some R → zQ (IM h0 p g q n S) G X cl sl 361 [some (zrf p), some (.int x1), some (zrf (g.2.1 x2)), some (.int x3), some (.int x4), none] [.int s2, .int s1, zrf (g.1 19)] := by
        intro S x1 x2 x3 x4 s2 s1 cl sl hc hs h_x2 hm
        unfold m_renames_j361 at hm
        obtain ⟨g1, hm⟩ := gd_e hm
        obtain ⟨g2, hm⟩ := gd_e hm
        obtain ⟨S3, e_S3, hm⟩ := lt_e hm
        refine zm_bast o rfl (b01_e g1) dX3_renames_361 g2 e_S3 ?_
        refine zQ.s (fun h => zs_aload_n (i := 0) o dX3_renames_362 rfl rfl) ?_
        refine zm_getR o fl_X3_62_3 rfl dX3_renames_363 ?_
        refine zQ.s (fun h => zs_aload_n (i := 2) o dX3_renames_366 rfl rfl) ?_
        refine zQ.s (fun h => zs_bipush (v := 9) o dX3_renames_367 (by decide)) ?_
        obtain ⟨g4, hm⟩ := gd_e hm
        refine zm_rald o h_x2 dX3_renames_369 g4 ?_
        refine zQ.s (fun h => zs_iload (i := 4) o dX3_renames_370 rfl) ?_
        refine zQ.s (fun h => zs_bipush (v := 15) o dX3_renames_372 (by decide)) ?_
        refine zQ.b (fun h => zs_icmp_ne (tgt := 383) o dX3_renames_374 (by decide)) (fun c => ?_) (fun c => ?_)
        · have hm := if_e2 hm c
          refine zQ.s (fun h => zs_aload_n (i := 0) o dX3_renames_383 rfl rfl) ?_
          refine zm_getR o fl_X3_62_3 rfl dX3_renames_384 ?_
          refine zQ.s (fun h => zs_aload_n (i := 2) o dX3_renames_387 rfl rfl) ?_
          refine zQ.s (fun h => zs_bipush (v := 9) o dX3_renames_388 (by decide)) ?_
          obtain ⟨g5, hm⟩ := gd_e hm
          refine zm_rald o h_x2 dX3_renames_390 g5 ?_
          obtain ⟨g6, hm⟩ := gd_e hm
          refine zm_iald o rfl dX3_renames_391 g6 ?_
          refine zQ.fg (zl_s (zl_s (zl_s (zl_n (zl_s (zl_n zl_0)))))) ?_
          exact hj392 _ _ _ _ _ _ _ _ (by omega) (by omega) h_x2 hm
        · have hm := if_e1 hm c
          refine zQ.s (fun h => zs_iload_n (i := 3) o dX3_renames_377 rfl rfl) ?_
          refine zQ.s (fun h => zs_iconst (v := 1) o dX3_renames_378 (by decide)) ?_
          refine zQ.s (fun h => zs_iadd o dX3_renames_379) ?_
          refine zQ.s (fun h => zs_goto (tgt := 392) o dX3_renames_380 (by decide)) ?_
          refine zQ.fg (zl_s (zl_s (zl_s (zl_n (zl_s (zl_n zl_0)))))) ?_
          exact hj392 _ _ _ _ _ _ _ _ (by omega) (by omega) h_x2 hm
      have hl280 : ∀ (n280 : Nat), n280 ≤ 100 → ∀ (S : MS) (x1 : Int32) (x2 : Nat) (x3 : Int32) (x4 : Int32) (x5 : Int32) (cl sl : Nat), cl + (0) ≤ 0 → sl + (0) ≤ 0 → x2 < 16 → m_renames_l280 (m_renames_l2 n2) n280 S x1 x2 x3 x4 x5 = some R → zQ (IM h0 p g q n S) G X cl sl 280 [some (zrf p), some (.int x1), some (zrf (g.2.1 x2)), some (.int x3), some (.int x4), some (.int x5)] [] := by
        intro n280
        induction n280 with
        | zero => intro _ S x1 x2 x3 x4 x5 cl sl _ _ h_x2 hm; exact no_e hm
        | succ n280 ih =>
          intro hf280
          have ih280 := ih (by omega)
          intro S x1 x2 x3 x4 x5 cl sl hc hs h_x2 hm
          have hm : m_renames_b280 (m_renames_l2 n2) (m_renames_l280 (m_renames_l2 n2) n280) S x1 x2 x3 x4 x5 = some R := hm
          unfold m_renames_b280 at hm
          refine zQ.s (fun h => zs_iload (i := 5) o dX3_renames_280 rfl) ?_
          refine zQ.s (fun h => zs_aload_n (i := 0) o dX3_renames_282 rfl rfl) ?_
          refine zm_getI o fl_X3_126_3 rfl dX3_renames_283 ?_
          refine zQ.b (fun h => zs_icmp_ge (tgt := 311) o dX3_renames_286 (by decide)) (fun c => ?_) (fun c => ?_)
          · have hm := if_e1 hm c
            refine zQ.s (fun h => zs_aload_n (i := 2) o dX3_renames_311 rfl rfl) ?_
            refine zQ.s (fun h => zs_bipush (v := 10) o dX3_renames_312 (by decide)) ?_
            refine zQ.s (fun h => zs_aload_n (i := 0) o dX3_renames_314 rfl rfl) ?_
            refine zm_getR o fl_X3_56_3 rfl dX3_renames_315 ?_
            refine zQ.s (fun h => zs_aload_n (i := 0) o dX3_renames_318 rfl rfl) ?_
            refine zm_getR o fl_X3_13_3 rfl dX3_renames_319 ?_
            refine zQ.s (fun h => zs_iload_n (i := 3) o dX3_renames_322 rfl rfl) ?_
            obtain ⟨g1, hm⟩ := gd_e hm
            refine zm_iald o rfl dX3_renames_323 g1 ?_
            obtain ⟨g2, hm⟩ := gd_e hm
            refine zm_iald o rfl dX3_renames_324 g2 ?_
            obtain ⟨g3, hm⟩ := gd_e hm
            obtain ⟨S4, e_S4, hm⟩ := lt_e hm
            refine zm_rast o h_x2 dX3_renames_325 g3 e_S4 ?_
            refine zQ.s (fun h => zs_aload_n (i := 0) o dX3_renames_326 rfl rfl) ?_
            refine zm_getR o fl_X3_56_3 rfl dX3_renames_327 ?_
            refine zQ.s (fun h => zs_aload_n (i := 0) o dX3_renames_330 rfl rfl) ?_
            refine zm_getR o fl_X3_13_3 rfl dX3_renames_331 ?_
            refine zQ.s (fun h => zs_iload_n (i := 3) o dX3_renames_334 rfl rfl) ?_
            obtain ⟨g5, hm⟩ := gd_e hm
            refine zm_iald o rfl dX3_renames_335 g5 ?_
            refine zQ.s (fun h => zs_aload_n (i := 2) o dX3_renames_336 rfl rfl) ?_
            refine zQ.s (fun h => zs_bipush (v := 9) o dX3_renames_337 (by decide)) ?_
            obtain ⟨g6, hm⟩ := gd_e hm
            refine zm_rald o h_x2 dX3_renames_339 g6 ?_
            obtain ⟨g7, hm⟩ := gd_e hm
            obtain ⟨S8, e_S8, hm⟩ := lt_e hm
            refine zm_iast o rfl dX3_renames_340 g7 e_S8 ?_
            refine zQ.s (fun h => zs_aload_n (i := 0) o dX3_renames_341 rfl rfl) ?_
            refine zm_getR o fl_X3_65_3 rfl dX3_renames_342 ?_
            refine zQ.s (fun h => zs_aload_n (i := 2) o dX3_renames_345 rfl rfl) ?_
            refine zQ.s (fun h => zs_bipush (v := 9) o dX3_renames_346 (by decide)) ?_
            obtain ⟨g9, hm⟩ := gd_e hm
            refine zm_rald o h_x2 dX3_renames_348 g9 ?_
            refine zQ.s (fun h => zs_iload (i := 4) o dX3_renames_349 rfl) ?_
            refine zQ.s (fun h => zs_bipush (v := 15) o dX3_renames_351 (by decide)) ?_
            refine zQ.b (fun h => zs_icmp_ne (tgt := 360) o dX3_renames_353 (by decide)) (fun c => ?_) (fun c => ?_)
            · have hm := if_e2 hm c
              refine zQ.s (fun h => zs_iconst (v := 0) o dX3_renames_360 (by decide)) ?_
              refine zQ.fg (zl_s (zl_s (zl_s (zl_s (zl_s (zl_n zl_0)))))) ?_
              exact hj361 _ _ _ _ _ _ _ _ _ (by omega) (by omega) h_x2 hm
            · have hm := if_e1 hm c
              refine zQ.s (fun h => zs_iconst (v := 1) o dX3_renames_356 (by decide)) ?_
              refine zQ.s (fun h => zs_goto (tgt := 361) o dX3_renames_357 (by decide)) ?_
              refine zQ.fg (zl_s (zl_s (zl_s (zl_s (zl_s (zl_n zl_0)))))) ?_
              exact hj361 _ _ _ _ _ _ _ _ _ (by omega) (by omega) h_x2 hm
          · have hm := if_e2 hm c
            refine zQ.s (fun h => zs_aload_n (i := 0) o dX3_renames_289 rfl rfl) ?_
            refine zm_getR o fl_X3_69_3 rfl dX3_renames_290 ?_
            refine zQ.s (fun h => zs_iload (i := 5) o dX3_renames_293 rfl) ?_
            refine zQ.s (fun h => zs_aload_n (i := 0) o dX3_renames_295 rfl rfl) ?_
            refine zm_getR o fl_X3_69_3 rfl dX3_renames_296 ?_
            refine zQ.s (fun h => zs_iload (i := 5) o dX3_renames_299 rfl) ?_
            refine zQ.s (fun h => zs_iconst (v := 1) o dX3_renames_301 (by decide)) ?_
            refine zQ.s (fun h => zs_iadd o dX3_renames_302) ?_
            obtain ⟨g10, hm⟩ := gd_e hm
            refine zm_iald o rfl dX3_renames_303 g10 ?_
            obtain ⟨g11, hm⟩ := gd_e hm
            obtain ⟨S12, e_S12, hm⟩ := lt_e hm
            refine zm_iast o rfl dX3_renames_304 g11 e_S12 ?_
            refine zQ.s (fun h => zs_iinc (i := 5) (v := x5 + (1 : Int32)) o dX3_renames_305 rfl rfl (by decide) (Or.inr rfl) (by simp only [List.set_cons_succ, List.set_cons_zero]; rfl)) ?_
            refine zQ.s (fun h => zs_goto (tgt := 280) o dX3_renames_308 (by decide)) ?_
            exact ih280 _ _ _ _ _ _ _ _ (by omega) (by omega) h_x2 hm
      have hj248 : ∀ (S : MS) (x1 : Int32) (x2 : Nat) (x3 : Int32) (x4 : Int32) (s2 : Int32) (s1 : Int32) (s0 : Nat) (cl sl : Nat), cl + (0) ≤ 0 → sl + (0) ≤ 0 → x2 < 16 → s0 < 16 → m_renames_j248 (m_renames_l2 n2) S x1 x2 x3 x4 s2 s1 s0 = some R → zQ (IM h0 p g q n S) G X cl sl 248 [some (zrf p), some (.int x1), some (zrf (g.2.1 x2)), some (.int x3), some (.int x4), none] [.int s2, .int s1, zrf (g.2.1 s0)] := by
        intro S x1 x2 x3 x4 s2 s1 s0 cl sl hc hs h_x2 h_s0 hm
        unfold m_renames_j248 at hm
        obtain ⟨g1, hm⟩ := gd_e hm
        obtain ⟨S2, e_S2, hm⟩ := lt_e hm
        refine zm_rast o h_s0 dX3_renames_248 g1 e_S2 ?_
        refine zQ.s (fun h => zs_iload (i := 4) o dX3_renames_249 rfl) ?_
        obtain ⟨y3, c_y3, hm⟩ := bd_e hm
        refine zQ_Si o ml_X3_209 (M_hasD G _ _ c_y3) dX3_renames_251 rfl rfl rfl rfl (by omega) (by omega) ?_
        refine zQ.b (fun h => zs_if_eq (tgt := 393) o dX3_renames_254 (by decide)) (fun c => ?_) (fun c => ?_)
        · have hm := if_e1 hm c
          refine zQ.fg (zl_s (zl_s (zl_s (zl_n (zl_s (zl_n zl_0)))))) ?_
          exact hj393 _ _ _ _ _ _ (by omega) (by omega) h_x2 hm
        · have hm := if_e2 hm c
          refine zQ.s (fun h => zs_aload_n (i := 2) o dX3_renames_257 rfl rfl) ?_
          refine zQ.s (fun h => zs_bipush (v := 9) o dX3_renames_258 (by decide)) ?_
          refine zQ.s (fun h => zs_aload_n (i := 0) o dX3_renames_260 rfl rfl) ?_
          refine zm_getR o fl_X3_69_3 rfl dX3_renames_261 ?_
          refine zQ.s (fun h => zs_iconst (v := 0) o dX3_renames_264 (by decide)) ?_
          obtain ⟨g4, hm⟩ := gd_e hm
          refine zm_iald o rfl dX3_renames_265 g4 ?_
          obtain ⟨g5, hm⟩ := gd_e hm
          obtain ⟨S6, e_S6, hm⟩ := lt_e hm
          refine zm_rast o h_x2 dX3_renames_266 g5 e_S6 ?_
          refine zQ.s (fun h => zs_aload_n (i := 0) o dX3_renames_267 rfl rfl) ?_
          refine zQ.s (fun h => zs_dup o dX3_renames_268 (by first | rfl | exact zrf_cat _)) ?_
          refine zm_getI o fl_X3_126_3 rfl dX3_renames_269 ?_
          refine zQ.s (fun h => zs_iconst (v := 1) o dX3_renames_272 (by decide)) ?_
          refine zQ.s (fun h => zs_isub o dX3_renames_273) ?_
          obtain ⟨S7, e_S7, hm⟩ := lt_e hm
          refine zm_putI o fl_X3_126_3 rfl rfl ⟨rfl, rfl⟩ dX3_renames_274 e_S7 ?_
          refine zQ.s (fun h => zs_iconst (v := 0) o dX3_renames_277 (by decide)) ?_
          refine zQ.s (fun h => zs_istore (i := 5) o dX3_renames_278 (by decide) (Or.inr rfl) (by simp only [List.set_cons_succ, List.set_cons_zero]; rfl)) ?_
          exact hl280 100 (Nat.le_refl _) _ _ _ _ _ _ _ _ (by omega) (by omega) h_x2 hm
      have hj232 : ∀ (S : MS) (x1 : Int32) (x2 : Nat) (x3 : Int32) (x4 : Int32) (s2 : Int32) (s1 : Int32) (s0 : Nat) (cl sl : Nat), cl + (0) ≤ 0 → sl + (0) ≤ 0 → x2 < 16 → s0 < 16 → m_renames_j232 (m_renames_l2 n2) S x1 x2 x3 x4 s2 s1 s0 = some R → zQ (IM h0 p g q n S) G X cl sl 232 [some (zrf p), some (.int x1), some (zrf (g.2.1 x2)), some (.int x3), some (.int x4), none] [.int s2, .int s1, zrf (g.2.1 s0)] := by
        intro S x1 x2 x3 x4 s2 s1 s0 cl sl hc hs h_x2 h_s0 hm
        unfold m_renames_j232 at hm
        obtain ⟨g1, hm⟩ := gd_e hm
        obtain ⟨S2, e_S2, hm⟩ := lt_e hm
        refine zm_rast o h_s0 dX3_renames_232 g1 e_S2 ?_
        refine zQ.s (fun h => zs_aload_n (i := 2) o dX3_renames_233 rfl rfl) ?_
        refine zQ.s (fun h => zs_bipush (v := 13) o dX3_renames_234 (by decide)) ?_
        refine zQ.s (fun h => zs_iload (i := 4) o dX3_renames_236 rfl) ?_
        refine zQ.s (fun h => zs_bipush (v := 20) o dX3_renames_238 (by decide)) ?_
        refine zQ.b (fun h => zs_icmp_ne (tgt := 247) o dX3_renames_240 (by decide)) (fun c => ?_) (fun c => ?_)
        · have hm := if_e2 hm c
          refine zQ.s (fun h => zs_iconst (v := 0) o dX3_renames_247 (by decide)) ?_
          exact hj248 _ _ _ _ _ _ _ _ _ _ (by omega) (by omega) h_x2 h_x2 hm
        · have hm := if_e1 hm c
          refine zQ.s (fun h => zs_iconst (v := 4) o dX3_renames_243 (by decide)) ?_
          refine zQ.s (fun h => zs_goto (tgt := 248) o dX3_renames_244 (by decide)) ?_
          exact hj248 _ _ _ _ _ _ _ _ _ _ (by omega) (by omega) h_x2 h_x2 hm
      have hj220 : ∀ (S : MS) (x1 : Int32) (x2 : Nat) (x3 : Int32) (x4 : Int32) (s1 : Int32) (s0 : Nat) (cl sl : Nat), cl + (0) ≤ 0 → sl + (0) ≤ 0 → x2 < 16 → s0 < 16 → m_renames_j220 (m_renames_l2 n2) S x1 x2 x3 x4 s1 s0 = some R → zQ (IM h0 p g q n S) G X cl sl 220 [some (zrf p), some (.int x1), some (zrf (g.2.1 x2)), some (.int x3), some (.int x4), none] [.int s1, zrf (g.2.1 s0)] := by
        intro S x1 x2 x3 x4 s1 s0 cl sl hc hs h_x2 h_s0 hm
        unfold m_renames_j220 at hm
        refine zQ.s (fun h => zs_aload_n (i := 0) o dX3_renames_220 rfl rfl) ?_
        refine zm_getR o fl_X3_22_3 rfl dX3_renames_221 ?_
        refine zQ.s (fun h => zs_iload_n (i := 3) o dX3_renames_224 rfl rfl) ?_
        obtain ⟨g1, hm⟩ := gd_e hm
        refine zm_iald o rfl dX3_renames_225 g1 ?_
        refine zQ.s (fun h => zs_goto (tgt := 232) o dX3_renames_226 (by decide)) ?_
        exact hj232 _ _ _ _ _ _ _ _ _ _ (by omega) (by omega) h_x2 h_s0 hm
      have hl94 : ∀ (n94 : Nat), n94 ≤ 100 → ∀ (S : MS) (x1 : Int32) (x2 : Nat) (x3 : Int32) (cl sl : Nat), cl + (0) ≤ 0 → sl + (0) ≤ 0 → x2 < 16 → m_renames_l94 (m_renames_l2 n2) n94 S x1 x2 x3 = some R → zQ (IM h0 p g q n S) G X cl sl 94 [some (zrf p), some (.int x1), some (zrf (g.2.1 x2)), some (.int x3), none, none] [] := by
        intro n94
        induction n94 with
        | zero => intro _ S x1 x2 x3 cl sl _ _ h_x2 hm; exact no_e hm
        | succ n94 ih =>
          intro hf94
          have ih94 := ih (by omega)
          have hl105 : ∀ (n105 : Nat), n105 ≤ 100 → ∀ (S : MS) (x1 : Int32) (x2 : Nat) (x3 : Int32) (x4 : Int32) (cl sl : Nat), cl + (0) ≤ 0 → sl + (0) ≤ 0 → x2 < 16 → m_renames_l105 (m_renames_l2 n2) (m_renames_l94 (m_renames_l2 n2) n94) n105 S x1 x2 x3 x4 = some R → zQ (IM h0 p g q n S) G X cl sl 105 [some (zrf p), some (.int x1), some (zrf (g.2.1 x2)), some (.int x3), some (.int x4), none] [] := by
            intro n105
            induction n105 with
            | zero => intro _ S x1 x2 x3 x4 cl sl _ _ h_x2 hm; exact no_e hm
            | succ n105 ih =>
              intro hf105
              have ih105 := ih (by omega)
              intro S x1 x2 x3 x4 cl sl hc hs h_x2 hm
              have hm : m_renames_b105 (m_renames_l2 n2) (m_renames_l94 (m_renames_l2 n2) n94) (m_renames_l105 (m_renames_l2 n2) (m_renames_l94 (m_renames_l2 n2) n94) n105) S x1 x2 x3 x4 = some R := hm
              unfold m_renames_b105 at hm
              refine zQ.s (fun h => zs_iload (i := 4) o dX3_renames_105 rfl) ?_
              refine zQ.s (fun h => zs_bipush (v := 28) o dX3_renames_107 (by decide)) ?_
              refine zQ.b (fun h => zs_icmp_ge (tgt := 138) o dX3_renames_109 (by decide)) (fun c => ?_) (fun c => ?_)
              · have hm := if_e1 hm c
                refine zQ.s (fun h => zs_iinc (i := 3) (v := x3 + (1 : Int32)) o dX3_renames_138 rfl rfl (by decide) (Or.inr (zc2_ref rfl)) (by simp only [List.set_cons_succ, List.set_cons_zero]; rfl)) ?_
                refine zQ.s (fun h => zs_goto (tgt := 94) o dX3_renames_141 (by decide)) ?_
                refine zQ.fg (zl_s (zl_s (zl_s (zl_s (zl_n (zl_n zl_0)))))) ?_
                exact ih94 _ _ _ _ _ _ (by omega) (by omega) h_x2 hm
              · have hm := if_e2 hm c
                refine zQ.s (fun h => zs_aload_n (i := 0) o dX3_renames_112 rfl rfl) ?_
                refine zm_getR o fl_X3_77_3 rfl dX3_renames_113 ?_
                refine zQ.s (fun h => zs_iload_n (i := 3) o dX3_renames_116 rfl rfl) ?_
                obtain ⟨g1, hm⟩ := gd_e hm
                obtain ⟨r2, e_r2, hm⟩ := lt_e hm
                refine zm_lrow o dX3_renames_117 g1 e_r2 (fun h_r2 => ?_)
                refine zQ.s (fun h => zs_iload (i := 4) o dX3_renames_118 rfl) ?_
                refine zQ.s (fun h => zs_aload_n (i := 0) o dX3_renames_120 rfl rfl) ?_
                refine zm_getR o fl_X3_77_3 rfl dX3_renames_121 ?_
                refine zQ.s (fun h => zs_iload_n (i := 3) o dX3_renames_124 rfl rfl) ?_
                refine zQ.s (fun h => zs_iconst (v := 1) o dX3_renames_125 (by decide)) ?_
                refine zQ.s (fun h => zs_iadd o dX3_renames_126) ?_
                obtain ⟨g3, hm⟩ := gd_e hm
                obtain ⟨r4, e_r4, hm⟩ := lt_e hm
                refine zm_lrow o dX3_renames_127 g3 e_r4 (fun h_r4 => ?_)
                refine zQ.s (fun h => zs_iload (i := 4) o dX3_renames_128 rfl) ?_
                obtain ⟨g5, hm⟩ := gd_e hm
                refine zm_lald o h_r4 dX3_renames_130 g5 ?_
                obtain ⟨g6, hm⟩ := gd_e hm
                obtain ⟨S7, e_S7, hm⟩ := lt_e hm
                refine zm_last o h_r2 dX3_renames_131 g6 e_S7 ?_
                refine zQ.s (fun h => zs_iinc (i := 4) (v := x4 + (1 : Int32)) o dX3_renames_132 rfl rfl (by decide) (Or.inr rfl) (by simp only [List.set_cons_succ, List.set_cons_zero]; rfl)) ?_
                refine zQ.s (fun h => zs_goto (tgt := 105) o dX3_renames_135 (by decide)) ?_
                exact ih105 _ _ _ _ _ _ _ (by omega) (by omega) h_x2 hm
          intro S x1 x2 x3 cl sl hc hs h_x2 hm
          have hm : m_renames_b94 (m_renames_l2 n2) (m_renames_l94 (m_renames_l2 n2) n94) S x1 x2 x3 = some R := hm
          unfold m_renames_b94 at hm
          refine zQ.s (fun h => zs_iload_n (i := 3) o dX3_renames_94 rfl rfl) ?_
          refine zQ.s (fun h => zs_aload_n (i := 0) o dX3_renames_95 rfl rfl) ?_
          refine zm_getI o fl_X3_177_3 rfl dX3_renames_96 ?_
          refine zQ.b (fun h => zs_icmp_ge (tgt := 144) o dX3_renames_99 (by decide)) (fun c => ?_) (fun c => ?_)
          · have hm := if_e1 hm c
            refine zQ.s (fun h => zs_aload_n (i := 2) o dX3_renames_144 rfl rfl) ?_
            refine zQ.s (fun h => zs_iconst (v := 0) o dX3_renames_145 (by decide)) ?_
            obtain ⟨g1, hm⟩ := gd_e hm
            refine zm_rald o h_x2 dX3_renames_146 g1 ?_
            obtain ⟨v2, e_v2, hm⟩ := lt_e hm
            refine zQ.nmi e_v2 ?_
            refine zQ.s (fun h => zs_istore_n (i := 3) o dX3_renames_147 rfl (by decide) (Or.inr (zc2_ref rfl)) (by simp only [List.set_cons_succ, List.set_cons_zero]; rfl)) ?_
            refine zQ.s (fun h => zs_aload_n (i := 0) o dX3_renames_148 rfl rfl) ?_
            refine zm_getR o fl_X3_9_3 rfl dX3_renames_149 ?_
            refine zQ.s (fun h => zs_iload_n (i := 3) o dX3_renames_152 rfl rfl) ?_
            obtain ⟨g3, hm⟩ := gd_e hm
            refine zm_iald o rfl dX3_renames_153 g3 ?_
            obtain ⟨v4, e_v4, hm⟩ := lt_e hm
            refine zQ.nmi e_v4 ?_
            refine zQ.s (fun h => zs_istore (i := 4) o dX3_renames_154 (by decide) (Or.inr rfl) (by simp only [List.set_cons_succ, List.set_cons_zero]; rfl)) ?_
            refine zQ.s (fun h => zs_aload_n (i := 2) o dX3_renames_156 rfl rfl) ?_
            refine zQ.s (fun h => zs_iconst (v := 2) o dX3_renames_157 (by decide)) ?_
            refine zQ.s (fun h => zs_aload_n (i := 0) o dX3_renames_158 rfl rfl) ?_
            refine zm_getI o fl_X3_133_3 rfl dX3_renames_159 ?_
            obtain ⟨g5, hm⟩ := gd_e hm
            obtain ⟨S6, e_S6, hm⟩ := lt_e hm
            refine zm_rast o h_x2 dX3_renames_162 g5 e_S6 ?_
            refine zQ.s (fun h => zs_aload_n (i := 2) o dX3_renames_163 rfl rfl) ?_
            refine zQ.s (fun h => zs_bipush (v := 7) o dX3_renames_164 (by decide)) ?_
            refine zQ.s (fun h => zs_aload_n (i := 0) o dX3_renames_166 rfl rfl) ?_
            refine zm_getR o fl_X3_56_3 rfl dX3_renames_167 ?_
            refine zQ.s (fun h => zs_aload_n (i := 0) o dX3_renames_170 rfl rfl) ?_
            refine zm_getR o fl_X3_16_3 rfl dX3_renames_171 ?_
            refine zQ.s (fun h => zs_iload_n (i := 3) o dX3_renames_174 rfl rfl) ?_
            obtain ⟨g7, hm⟩ := gd_e hm
            refine zm_iald o rfl dX3_renames_175 g7 ?_
            obtain ⟨g8, hm⟩ := gd_e hm
            refine zm_iald o rfl dX3_renames_176 g8 ?_
            obtain ⟨g9, hm⟩ := gd_e hm
            obtain ⟨S10, e_S10, hm⟩ := lt_e hm
            refine zm_rast o h_x2 dX3_renames_177 g9 e_S10 ?_
            refine zQ.s (fun h => zs_aload_n (i := 2) o dX3_renames_178 rfl rfl) ?_
            refine zQ.s (fun h => zs_bipush (v := 8) o dX3_renames_179 (by decide)) ?_
            refine zQ.s (fun h => zs_aload_n (i := 0) o dX3_renames_181 rfl rfl) ?_
            refine zm_getR o fl_X3_56_3 rfl dX3_renames_182 ?_
            refine zQ.s (fun h => zs_aload_n (i := 0) o dX3_renames_185 rfl rfl) ?_
            refine zm_getR o fl_X3_19_3 rfl dX3_renames_186 ?_
            refine zQ.s (fun h => zs_iload_n (i := 3) o dX3_renames_189 rfl rfl) ?_
            obtain ⟨g11, hm⟩ := gd_e hm
            refine zm_iald o rfl dX3_renames_190 g11 ?_
            obtain ⟨g12, hm⟩ := gd_e hm
            refine zm_iald o rfl dX3_renames_191 g12 ?_
            obtain ⟨g13, hm⟩ := gd_e hm
            obtain ⟨S14, e_S14, hm⟩ := lt_e hm
            refine zm_rast o h_x2 dX3_renames_192 g13 e_S14 ?_
            refine zQ.s (fun h => zs_aload_n (i := 2) o dX3_renames_193 rfl rfl) ?_
            refine zQ.s (fun h => zs_bipush (v := 16) o dX3_renames_194 (by decide)) ?_
            refine zQ.s (fun h => zs_iconst (v := -1) o dX3_renames_196 (by decide)) ?_
            obtain ⟨g15, hm⟩ := gd_e hm
            obtain ⟨S16, e_S16, hm⟩ := lt_e hm
            refine zm_rast o h_x2 dX3_renames_197 g15 e_S16 ?_
            refine zQ.s (fun h => zs_aload_n (i := 2) o dX3_renames_198 rfl rfl) ?_
            refine zQ.s (fun h => zs_bipush (v := 14) o dX3_renames_199 (by decide)) ?_
            refine zQ.s (fun h => zs_iconst (v := -1) o dX3_renames_201 (by decide)) ?_
            obtain ⟨g17, hm⟩ := gd_e hm
            obtain ⟨S18, e_S18, hm⟩ := lt_e hm
            refine zm_rast o h_x2 dX3_renames_202 g17 e_S18 ?_
            refine zQ.s (fun h => zs_aload_n (i := 2) o dX3_renames_203 rfl rfl) ?_
            refine zQ.s (fun h => zs_bipush (v := 6) o dX3_renames_204 (by decide)) ?_
            refine zQ.s (fun h => zs_iload (i := 4) o dX3_renames_206 rfl) ?_
            refine zQ.s (fun h => zs_bipush (v := 14) o dX3_renames_208 (by decide)) ?_
            refine zQ.b (fun h => zs_icmp_eq (tgt := 220) o dX3_renames_210 (by decide)) (fun c => ?_) (fun c => ?_)
            · have hm := if_e1 hm c
              exact hj220 _ _ _ _ _ _ _ _ _ (by omega) (by omega) h_x2 h_x2 hm
            · have hm := if_e2 hm c
              refine zQ.s (fun h => zs_iload (i := 4) o dX3_renames_213 rfl) ?_
              refine zQ.s (fun h => zs_bipush (v := 15) o dX3_renames_215 (by decide)) ?_
              refine zQ.b (fun h => zs_icmp_ne (tgt := 229) o dX3_renames_217 (by decide)) (fun c => ?_) (fun c => ?_)
              · have hm := if_e2 hm c
                refine zQ.s (fun h => zs_iload_n (i := 3) o dX3_renames_229 rfl rfl) ?_
                refine zQ.s (fun h => zs_iconst (v := 1) o dX3_renames_230 (by decide)) ?_
                refine zQ.s (fun h => zs_iadd o dX3_renames_231) ?_
                exact hj232 _ _ _ _ _ _ _ _ _ _ (by omega) (by omega) h_x2 h_x2 hm
              · have hm := if_e1 hm c
                exact hj220 _ _ _ _ _ _ _ _ _ (by omega) (by omega) h_x2 h_x2 hm
          · have hm := if_e2 hm c
            refine zQ.s (fun h => zs_iconst (v := 0) o dX3_renames_102 (by decide)) ?_
            refine zQ.s (fun h => zs_istore (i := 4) o dX3_renames_103 (by decide) (Or.inr rfl) (by simp only [List.set_cons_succ, List.set_cons_zero]; rfl)) ?_
            exact hl105 100 (Nat.le_refl _) _ _ _ _ _ _ _ (by omega) (by omega) h_x2 hm
      have hl59 : ∀ (n59 : Nat), n59 ≤ 100 → ∀ (S : MS) (x1 : Int32) (x2 : Nat) (x3 : Int32) (cl sl : Nat), cl + (0) ≤ 0 → sl + (0) ≤ 0 → x2 < 16 → m_renames_l59 (m_renames_l2 n2) n59 S x1 x2 x3 = some R → zQ (IM h0 p g q n S) G X cl sl 59 [some (zrf p), some (.int x1), some (zrf (g.2.1 x2)), some (.int x3), none, none] [] := by
        intro n59
        induction n59 with
        | zero => intro _ S x1 x2 x3 cl sl _ _ h_x2 hm; exact no_e hm
        | succ n59 ih =>
          intro hf59
          have ih59 := ih (by omega)
          intro S x1 x2 x3 cl sl hc hs h_x2 hm
          have hm : m_renames_b59 (m_renames_l2 n2) (m_renames_l59 (m_renames_l2 n2) n59) S x1 x2 x3 = some R := hm
          unfold m_renames_b59 at hm
          refine zQ.s (fun h => zs_iload_n (i := 3) o dX3_renames_59 rfl rfl) ?_
          refine zQ.s (fun h => zs_bipush (v := 28) o dX3_renames_60 (by decide)) ?_
          refine zQ.b (fun h => zs_icmp_ge (tgt := 82) o dX3_renames_62 (by decide)) (fun c => ?_) (fun c => ?_)
          · have hm := if_e1 hm c
            refine zQ.s (fun h => zs_aload_n (i := 0) o dX3_renames_82 rfl rfl) ?_
            refine zQ.s (fun h => zs_dup o dX3_renames_83 (by first | rfl | exact zrf_cat _)) ?_
            refine zm_getI o fl_X3_177_3 rfl dX3_renames_84 ?_
            refine zQ.s (fun h => zs_iconst (v := 1) o dX3_renames_87 (by decide)) ?_
            refine zQ.s (fun h => zs_isub o dX3_renames_88) ?_
            obtain ⟨S1, e_S1, hm⟩ := lt_e hm
            refine zm_putI o fl_X3_177_3 rfl rfl ⟨rfl, rfl⟩ dX3_renames_89 e_S1 ?_
            refine zQ.s (fun h => zs_iconst (v := 0) o dX3_renames_92 (by decide)) ?_
            refine zQ.s (fun h => zs_istore_n (i := 3) o dX3_renames_93 rfl (by decide) (Or.inr (zc2_ref rfl)) (by simp only [List.set_cons_succ, List.set_cons_zero]; rfl)) ?_
            exact hl94 100 (Nat.le_refl _) _ _ _ _ _ _ (by omega) (by omega) h_x2 hm
          · have hm := if_e2 hm c
            refine zQ.s (fun h => zs_aload_n (i := 2) o dX3_renames_65 rfl rfl) ?_
            refine zQ.s (fun h => zs_iload_n (i := 3) o dX3_renames_66 rfl rfl) ?_
            refine zQ.s (fun h => zs_aload_n (i := 0) o dX3_renames_67 rfl rfl) ?_
            refine zm_getR o fl_X3_77_3 rfl dX3_renames_68 ?_
            refine zQ.s (fun h => zs_iconst (v := 0) o dX3_renames_71 (by decide)) ?_
            obtain ⟨g2, hm⟩ := gd_e hm
            obtain ⟨r3, e_r3, hm⟩ := lt_e hm
            refine zm_lrow o dX3_renames_72 g2 e_r3 (fun h_r3 => ?_)
            refine zQ.s (fun h => zs_iload_n (i := 3) o dX3_renames_73 rfl rfl) ?_
            obtain ⟨g4, hm⟩ := gd_e hm
            refine zm_lald o h_r3 dX3_renames_74 g4 ?_
            obtain ⟨g5, hm⟩ := gd_e hm
            obtain ⟨S6, e_S6, hm⟩ := lt_e hm
            refine zm_rast o h_x2 dX3_renames_75 g5 e_S6 ?_
            refine zQ.s (fun h => zs_iinc (i := 3) (v := x3 + (1 : Int32)) o dX3_renames_76 rfl rfl (by decide) (Or.inr (zc2_ref rfl)) (by simp only [List.set_cons_succ, List.set_cons_zero]; rfl)) ?_
            refine zQ.s (fun h => zs_goto (tgt := 59) o dX3_renames_79 (by decide)) ?_
            exact ih59 _ _ _ _ _ _ (by omega) (by omega) h_x2 hm
      intro S x1 cl sl hc hs hm
      have hm : m_renames_b2 (m_renames_l2 n2) S x1 = some R := hm
      unfold m_renames_b2 at hm
      refine zQ.s (fun h => zs_iload_n (i := 1) o dX3_renames_2 rfl rfl) ?_
      refine zQ.s (fun h => zs_aload_n (i := 0) o dX3_renames_3 rfl rfl) ?_
      refine zm_getI o fl_X3_25_3 rfl dX3_renames_4 ?_
      refine zQ.b (fun h => zs_icmp_ge (tgt := 425) o dX3_renames_7 (by decide)) (fun c => ?_) (fun c => ?_)
      · have hm := if_e1 hm c
        refine zQ.fg (zl_n (zl_n (zl_n (zl_n (zl_n (zl_n zl_0)))))) ?_
        exact hj425 _ _ _ (by omega) (by omega) hm
      · have hm := if_e2 hm c
        refine zQ.s (fun h => zs_aload_n (i := 0) o dX3_renames_10 rfl rfl) ?_
        refine zm_getI o fl_X3_177_3 rfl dX3_renames_11 ?_
        refine zQ.b (fun h => zs_if_le (tgt := 425) o dX3_renames_14 (by decide)) (fun c => ?_) (fun c => ?_)
        · have hm := if_e1 hm c
          refine zQ.fg (zl_n (zl_n (zl_n (zl_n (zl_n (zl_n zl_0)))))) ?_
          exact hj425 _ _ _ (by omega) (by omega) hm
        · have hm := if_e2 hm c
          refine zQ.s (fun h => zs_aload_n (i := 0) o dX3_renames_17 rfl rfl) ?_
          refine zQ.s (fun h => zs_aload_n (i := 0) o dX3_renames_18 rfl rfl) ?_
          refine zm_getR o fl_X3_9_3 rfl dX3_renames_19 ?_
          refine zQ.s (fun h => zs_aload_n (i := 0) o dX3_renames_22 rfl rfl) ?_
          refine zm_getR o fl_X3_77_3 rfl dX3_renames_23 ?_
          refine zQ.s (fun h => zs_iconst (v := 0) o dX3_renames_26 (by decide)) ?_
          obtain ⟨g1, hm⟩ := gd_e hm
          obtain ⟨r2, e_r2, hm⟩ := lt_e hm
          refine zm_lrow o dX3_renames_27 g1 e_r2 (fun h_r2 => ?_)
          refine zQ.s (fun h => zs_iconst (v := 0) o dX3_renames_28 (by decide)) ?_
          obtain ⟨g3, hm⟩ := gd_e hm
          refine zm_lald o h_r2 dX3_renames_29 g3 ?_
          obtain ⟨g4, hm⟩ := gd_e hm
          refine zm_iald o rfl dX3_renames_30 g4 ?_
          obtain ⟨y5, c_y5, hm⟩ := bd_e hm
          refine zm_Vi o ml_X3_219 (M_canRename G p g _ _ _ _ _ _ c_y5) dX3_renames_31 rfl rfl rfl rfl (by omega) (by omega) ?_
          refine zQ.b (fun h => zs_if_eq (tgt := 425) o dX3_renames_34 (by decide)) (fun c => ?_) (fun c => ?_)
          · have hm := if_e1 hm c
            refine zQ.fg (zl_n (zl_n (zl_n (zl_n (zl_n (zl_n zl_0)))))) ?_
            exact hj425 _ _ _ (by omega) (by omega) hm
          · have hm := if_e2 hm c
            refine zQ.s (fun h => zs_aload_n (i := 0) o dX3_renames_37 rfl rfl) ?_
            refine zm_getR o fl_X3_74_3 rfl dX3_renames_38 ?_
            refine zQ.s (fun h => zs_aload_n (i := 0) o dX3_renames_41 rfl rfl) ?_
            refine zm_getI o fl_X3_198_3 rfl dX3_renames_42 ?_
            obtain ⟨g6, hm⟩ := gd_e hm
            obtain ⟨r7, e_r7, hm⟩ := lt_e hm
            refine zm_row o dX3_renames_45 g6 e_r7 (fun h_r7 => ?_)
            refine zQ.s (fun h => zs_astore_n (i := 2) o dX3_renames_46 rfl (by decide) (Or.inr rfl) (by simp only [List.set_cons_succ, List.set_cons_zero]; rfl)) ?_
            refine zQ.s (fun h => zs_aload_n (i := 0) o dX3_renames_47 rfl rfl) ?_
            refine zQ.s (fun h => zs_dup o dX3_renames_48 (by first | rfl | exact zrf_cat _)) ?_
            refine zm_getI o fl_X3_198_3 rfl dX3_renames_49 ?_
            refine zQ.s (fun h => zs_iconst (v := 1) o dX3_renames_52 (by decide)) ?_
            refine zQ.s (fun h => zs_iadd o dX3_renames_53) ?_
            obtain ⟨S8, e_S8, hm⟩ := lt_e hm
            refine zm_putI o fl_X3_198_3 rfl rfl ⟨rfl, rfl⟩ dX3_renames_54 e_S8 ?_
            refine zQ.s (fun h => zs_iconst (v := 0) o dX3_renames_57 (by decide)) ?_
            refine zQ.s (fun h => zs_istore_n (i := 3) o dX3_renames_58 rfl (by decide) (Or.inr (zc2_ref rfl)) (by simp only [List.set_cons_succ, List.set_cons_zero]; rfl)) ?_
            exact hl59 100 (Nat.le_refl _) _ _ _ _ _ _ (by omega) (by omega) h_r7 hm
  unfold m_renames at hm
  refine zQ.s (fun h => zs_iconst (v := 0) o dX3_renames_0 (by decide)) ?_
  refine zQ.s (fun h => zs_istore_n (i := 1) o dX3_renames_1 rfl (by decide) (Or.inr (zc2_ref rfl)) (by simp only [List.set_cons_succ, List.set_cons_zero]; rfl)) ?_
  exact hl2 100 (Nat.le_refl _) _ _ _ _ (by omega) (by omega) hm

def m_hasOperands_j78 (S : MS) (s0 : Int32) : Option (MS × Int32) :=
  gd (b01 s0) <|
  some (S, s0)
def m_hasOperands_j73 (S : MS) : Option (MS × Int32) :=
  m_hasOperands_j78 S (1 : Int32)
def m_hasOperands_j77 (S : MS) : Option (MS × Int32) :=
  m_hasOperands_j78 S (0 : Int32)
def m_hasOperands_j50 (S : MS) (x1 : Nat) (x3 : Int32) (s0 : Int32) : Option (MS × Int32) :=
  if x3 = (0 : Int32) then
    m_hasOperands_j77 S
  else
    if s0 = (0 : Int32) then
      m_hasOperands_j73 S
    else
      gd (inb (8 : Int32) 28) <|
      gd (inb (mB S x1 (ix (8 : Int32))) 24) <|
      if (mA S 19 (ix (mB S x1 (ix (8 : Int32))))) = (0 : Int32) then
        m_hasOperands_j77 S
      else
        m_hasOperands_j73 S
def m_hasOperands_j45 (S : MS) (x1 : Nat) (x3 : Int32) : Option (MS × Int32) :=
  m_hasOperands_j50 S x1 x3 (1 : Int32)
def m_hasOperands_j22 (S : MS) (x1 : Nat) (x2 : Int32) (s0 : Int32) : Option (MS × Int32) :=
  bd (m_in x2 (2 : Int32) (8 : Int32)) fun y1 =>
  if y1 = (0 : Int32) then
    if x2 = (12 : Int32) then
      m_hasOperands_j45 S x1 s0
    else
      if x2 = (13 : Int32) then
        m_hasOperands_j45 S x1 s0
      else
        m_hasOperands_j50 S x1 s0 (0 : Int32)
  else
    m_hasOperands_j45 S x1 s0
def m_hasOperands_j17 (S : MS) (x1 : Nat) (x2 : Int32) : Option (MS × Int32) :=
  m_hasOperands_j22 S x1 x2 (1 : Int32)
def m_hasOperands (S : MS) (a1 : Nat) (a2 : Int32) : Option (MS × Int32) :=
  if a2 = (1 : Int32) then
    m_hasOperands_j17 S a1 a2
  else
    gd (inb (7 : Int32) 28) <|
    gd (inb (mB S a1 (ix (7 : Int32))) 24) <|
    if (mA S 19 (ix (mB S a1 (ix (7 : Int32))))) = (0 : Int32) then
      m_hasOperands_j22 S a1 a2 (0 : Int32)
    else
      m_hasOperands_j17 S a1 a2

set_option maxHeartbeats 40000000 in
theorem M_hasOperands (G : zG) (p : Nat) (g : MG) (q n : Nat) (S : MS) (a1 : Nat) (a2 : Int32) (h_a1 : a1 < 16) (V : Int32) (S9 : MS) (hm : m_hasOperands S a1 a2 = some (S9, V)) : zMi G yX3_hasOperands cX3_hasOperands 5 (some .boolean) 1 0 0 p g q n [zrf (g.2.1 a1), .int a2] S V S9 := by
  intro h0 h hI0
  refine zCo.st [some (zrf p), some (zrf (g.2.1 a1)), some (.int a2), none, none] rfl rfl (by simp only [zarg_r, zarg_i, zarg_l, zarg_0]; rfl) (fun X o f0 hin hw0 => ?_)
  have f := f0.e
  refine (?_ : zQ (IM h0 p g q n S) G X 0 0 0 [some (zrf p), some (zrf (g.2.1 a1)), some (.int a2), none, none] []) h hI0 hw0
  clear hI0 hw0
  generalize hR9 : ((S9, V) : (MS × Int32)) = R at hm
  have hj78 : ∀ (S : MS) (s0 : Int32) (cl sl : Nat), cl + (0) ≤ 0 → sl + (0) ≤ 0 → m_hasOperands_j78 S s0 = some R → zQ (IM h0 p g q n S) G X cl sl 78 [none, none, none, none, none] [.int s0] := by
    intro S s0 cl sl hc hs hm
    unfold m_hasOperands_j78 at hm
    obtain ⟨g1, hm⟩ := gd_e hm
    refine zm_reti o f dX3_hasOperands_78 (b01_e g1).1 (by omega) (by omega) ((so_e hm).trans hR9.symm)
  have hj77 : ∀ (S : MS) (cl sl : Nat), cl + (0) ≤ 0 → sl + (0) ≤ 0 → m_hasOperands_j77 S = some R → zQ (IM h0 p g q n S) G X cl sl 77 [none, none, none, none, none] [] := by
    intro S cl sl hc hs hm
    unfold m_hasOperands_j77 at hm
    refine zQ.s (fun h => zs_iconst (v := 0) o dX3_hasOperands_77 (by decide)) ?_
    exact hj78 _ _ _ _ (by omega) (by omega) hm
  have hj73 : ∀ (S : MS) (cl sl : Nat), cl + (0) ≤ 0 → sl + (0) ≤ 0 → m_hasOperands_j73 S = some R → zQ (IM h0 p g q n S) G X cl sl 73 [none, none, none, none, none] [] := by
    intro S cl sl hc hs hm
    unfold m_hasOperands_j73 at hm
    refine zQ.s (fun h => zs_iconst (v := 1) o dX3_hasOperands_73 (by decide)) ?_
    refine zQ.s (fun h => zs_goto (tgt := 78) o dX3_hasOperands_74 (by decide)) ?_
    exact hj78 _ _ _ _ (by omega) (by omega) hm
  have hj50 : ∀ (S : MS) (x1 : Nat) (x3 : Int32) (s0 : Int32) (cl sl : Nat), cl + (0) ≤ 0 → sl + (0) ≤ 0 → x1 < 16 → m_hasOperands_j50 S x1 x3 s0 = some R → zQ (IM h0 p g q n S) G X cl sl 50 [some (zrf p), some (zrf (g.2.1 x1)), none, some (.int x3), none] [.int s0] := by
    intro S x1 x3 s0 cl sl hc hs h_x1 hm
    unfold m_hasOperands_j50 at hm
    refine zQ.s (fun h => zs_istore (i := 4) o dX3_hasOperands_50 (by decide) (Or.inr rfl) (by simp only [List.set_cons_succ, List.set_cons_zero]; rfl)) ?_
    refine zQ.s (fun h => zs_iload_n (i := 3) o dX3_hasOperands_52 rfl rfl) ?_
    refine zQ.b (fun h => zs_if_eq (tgt := 77) o dX3_hasOperands_53 (by decide)) (fun c => ?_) (fun c => ?_)
    · have hm := if_e1 hm c
      refine zQ.fg (zl_n (zl_n (zl_n (zl_n (zl_n zl_0))))) ?_
      exact hj77 _ _ _ (by omega) (by omega) hm
    · have hm := if_e2 hm c
      refine zQ.s (fun h => zs_iload (i := 4) o dX3_hasOperands_56 rfl) ?_
      refine zQ.b (fun h => zs_if_eq (tgt := 73) o dX3_hasOperands_58 (by decide)) (fun c => ?_) (fun c => ?_)
      · have hm := if_e1 hm c
        refine zQ.fg (zl_n (zl_n (zl_n (zl_n (zl_n zl_0))))) ?_
        exact hj73 _ _ _ (by omega) (by omega) hm
      · have hm := if_e2 hm c
        refine zQ.s (fun h => zs_aload_n (i := 0) o dX3_hasOperands_61 rfl rfl) ?_
        refine zm_getR o fl_X3_65_3 rfl dX3_hasOperands_62 ?_
        refine zQ.s (fun h => zs_aload_n (i := 1) o dX3_hasOperands_65 rfl rfl) ?_
        refine zQ.s (fun h => zs_bipush (v := 8) o dX3_hasOperands_66 (by decide)) ?_
        obtain ⟨g1, hm⟩ := gd_e hm
        refine zm_rald o h_x1 dX3_hasOperands_68 g1 ?_
        obtain ⟨g2, hm⟩ := gd_e hm
        refine zm_bald o rfl dX3_hasOperands_69 g2 ?_
        refine zQ.b (fun h => zs_if_eq (tgt := 77) o dX3_hasOperands_70 (by decide)) (fun c => ?_) (fun c => ?_)
        · have hm := if_e1 hm c
          refine zQ.fg (zl_n (zl_n (zl_n (zl_n (zl_n zl_0))))) ?_
          exact hj77 _ _ _ (by omega) (by omega) hm
        · have hm := if_e2 hm c
          refine zQ.fg (zl_n (zl_n (zl_n (zl_n (zl_n zl_0))))) ?_
          exact hj73 _ _ _ (by omega) (by omega) hm
  have hj45 : ∀ (S : MS) (x1 : Nat) (x3 : Int32) (cl sl : Nat), cl + (0) ≤ 0 → sl + (0) ≤ 0 → x1 < 16 → m_hasOperands_j45 S x1 x3 = some R → zQ (IM h0 p g q n S) G X cl sl 45 [some (zrf p), some (zrf (g.2.1 x1)), none, some (.int x3), none] [] := by
    intro S x1 x3 cl sl hc hs h_x1 hm
    unfold m_hasOperands_j45 at hm
    refine zQ.s (fun h => zs_iconst (v := 1) o dX3_hasOperands_45 (by decide)) ?_
    refine zQ.s (fun h => zs_goto (tgt := 50) o dX3_hasOperands_46 (by decide)) ?_
    exact hj50 _ _ _ _ _ _ (by omega) (by omega) h_x1 hm
  have hj22 : ∀ (S : MS) (x1 : Nat) (x2 : Int32) (s0 : Int32) (cl sl : Nat), cl + (0) ≤ 0 → sl + (0) ≤ 0 → x1 < 16 → m_hasOperands_j22 S x1 x2 s0 = some R → zQ (IM h0 p g q n S) G X cl sl 22 [some (zrf p), some (zrf (g.2.1 x1)), some (.int x2), none, none] [.int s0] := by
    intro S x1 x2 s0 cl sl hc hs h_x1 hm
    unfold m_hasOperands_j22 at hm
    refine zQ.s (fun h => zs_istore_n (i := 3) o dX3_hasOperands_22 rfl (by decide) (Or.inr rfl) (by simp only [List.set_cons_succ, List.set_cons_zero]; rfl)) ?_
    refine zQ.s (fun h => zs_iload_n (i := 2) o dX3_hasOperands_23 rfl rfl) ?_
    refine zQ.s (fun h => zs_iconst (v := 2) o dX3_hasOperands_24 (by decide)) ?_
    refine zQ.s (fun h => zs_bipush (v := 8) o dX3_hasOperands_25 (by decide)) ?_
    obtain ⟨y1, c_y1, hm⟩ := bd_e hm
    refine zQ_Si o ml_X3_129 (M_in G _ _ _ _ c_y1) dX3_hasOperands_27 rfl rfl rfl rfl (by omega) (by omega) ?_
    refine zQ.b (fun h => zs_if_ne (tgt := 45) o dX3_hasOperands_30 (by decide)) (fun c => ?_) (fun c => ?_)
    · have hm := if_e2 hm c
      refine zQ.fg (zl_s (zl_s (zl_n (zl_s (zl_n zl_0))))) ?_
      exact hj45 _ _ _ _ _ (by omega) (by omega) h_x1 hm
    · have hm := if_e1 hm c
      refine zQ.s (fun h => zs_iload_n (i := 2) o dX3_hasOperands_33 rfl rfl) ?_
      refine zQ.s (fun h => zs_bipush (v := 12) o dX3_hasOperands_34 (by decide)) ?_
      refine zQ.b (fun h => zs_icmp_eq (tgt := 45) o dX3_hasOperands_36 (by decide)) (fun c => ?_) (fun c => ?_)
      · have hm := if_e1 hm c
        refine zQ.fg (zl_s (zl_s (zl_n (zl_s (zl_n zl_0))))) ?_
        exact hj45 _ _ _ _ _ (by omega) (by omega) h_x1 hm
      · have hm := if_e2 hm c
        refine zQ.s (fun h => zs_iload_n (i := 2) o dX3_hasOperands_39 rfl rfl) ?_
        refine zQ.s (fun h => zs_bipush (v := 13) o dX3_hasOperands_40 (by decide)) ?_
        refine zQ.b (fun h => zs_icmp_ne (tgt := 49) o dX3_hasOperands_42 (by decide)) (fun c => ?_) (fun c => ?_)
        · have hm := if_e2 hm c
          refine zQ.s (fun h => zs_iconst (v := 0) o dX3_hasOperands_49 (by decide)) ?_
          refine zQ.fg (zl_s (zl_s (zl_n (zl_s (zl_n zl_0))))) ?_
          exact hj50 _ _ _ _ _ _ (by omega) (by omega) h_x1 hm
        · have hm := if_e1 hm c
          refine zQ.fg (zl_s (zl_s (zl_n (zl_s (zl_n zl_0))))) ?_
          exact hj45 _ _ _ _ _ (by omega) (by omega) h_x1 hm
  have hj17 : ∀ (S : MS) (x1 : Nat) (x2 : Int32) (cl sl : Nat), cl + (0) ≤ 0 → sl + (0) ≤ 0 → x1 < 16 → m_hasOperands_j17 S x1 x2 = some R → zQ (IM h0 p g q n S) G X cl sl 17 [some (zrf p), some (zrf (g.2.1 x1)), some (.int x2), none, none] [] := by
    intro S x1 x2 cl sl hc hs h_x1 hm
    unfold m_hasOperands_j17 at hm
    refine zQ.s (fun h => zs_iconst (v := 1) o dX3_hasOperands_17 (by decide)) ?_
    refine zQ.s (fun h => zs_goto (tgt := 22) o dX3_hasOperands_18 (by decide)) ?_
    exact hj22 _ _ _ _ _ _ (by omega) (by omega) h_x1 hm
  unfold m_hasOperands at hm
  refine zQ.s (fun h => zs_iload_n (i := 2) o dX3_hasOperands_0 rfl rfl) ?_
  refine zQ.s (fun h => zs_iconst (v := 1) o dX3_hasOperands_1 (by decide)) ?_
  refine zQ.b (fun h => zs_icmp_eq (tgt := 17) o dX3_hasOperands_2 (by decide)) (fun c => ?_) (fun c => ?_)
  · have hm := if_e1 hm c
    exact hj17 _ _ _ _ _ (by omega) (by omega) h_a1 hm
  · have hm := if_e2 hm c
    refine zQ.s (fun h => zs_aload_n (i := 0) o dX3_hasOperands_5 rfl rfl) ?_
    refine zm_getR o fl_X3_65_3 rfl dX3_hasOperands_6 ?_
    refine zQ.s (fun h => zs_aload_n (i := 1) o dX3_hasOperands_9 rfl rfl) ?_
    refine zQ.s (fun h => zs_bipush (v := 7) o dX3_hasOperands_10 (by decide)) ?_
    obtain ⟨g1, hm⟩ := gd_e hm
    refine zm_rald o h_a1 dX3_hasOperands_12 g1 ?_
    obtain ⟨g2, hm⟩ := gd_e hm
    refine zm_bald o rfl dX3_hasOperands_13 g2 ?_
    refine zQ.b (fun h => zs_if_eq (tgt := 21) o dX3_hasOperands_14 (by decide)) (fun c => ?_) (fun c => ?_)
    · have hm := if_e1 hm c
      refine zQ.s (fun h => zs_iconst (v := 0) o dX3_hasOperands_21 (by decide)) ?_
      exact hj22 _ _ _ _ _ _ (by omega) (by omega) h_a1 hm
    · have hm := if_e2 hm c
      exact hj17 _ _ _ _ _ (by omega) (by omega) h_a1 hm

def m_starts (S : MS) (a1 : Nat) (a2 : Int32) : Option MS :=
  gd (inb (11 : Int32) 28) <|
  lt (tB S a1 (ix (11 : Int32)) (120 : Int32)) fun S2 =>
  gd (inb (3 : Int32) 28) <|
  lt (tB S2 a1 (ix (3 : Int32)) (mS S2 36)) fun S4 =>
  gd (inb (12 : Int32) 28) <|
  lt (tB S4 a1 (ix (12 : Int32)) ((mS S4 36) + a2)) fun S6 =>
  some S6

set_option maxHeartbeats 40000000 in
theorem M_starts (G : zG) (p : Nat) (g : MG) (q n : Nat) (S : MS) (a1 : Nat) (a2 : Int32) (h_a1 : a1 < 16) (S9 : MS) (hm : m_starts S a1 a2 = some S9) : zMv G yX3_starts cX3_starts 3 none 0 0 0 p g q n [zrf (g.2.1 a1), .int a2] S S9 := by
  intro h0 h hI0
  refine zCo.st [some (zrf p), some (zrf (g.2.1 a1)), some (.int a2)] rfl rfl (by simp only [zarg_r, zarg_i, zarg_l, zarg_0]; rfl) (fun X o f0 hin hw0 => ?_)
  have f := f0.e
  refine (?_ : zQ (IM h0 p g q n S) G X 0 0 0 [some (zrf p), some (zrf (g.2.1 a1)), some (.int a2)] []) h hI0 hw0
  clear hI0 hw0
  generalize hR9 : (S9 : MS) = R at hm
  unfold m_starts at hm
  refine zQ.s (fun h => zs_aload_n (i := 1) o dX3_starts_0 rfl rfl) ?_
  refine zQ.s (fun h => zs_bipush (v := 11) o dX3_starts_1 (by decide)) ?_
  refine zQ.s (fun h => zs_bipush (v := 120) o dX3_starts_3 (by decide)) ?_
  obtain ⟨g1, hm⟩ := gd_e hm
  obtain ⟨S2, e_S2, hm⟩ := lt_e hm
  refine zm_rast o h_a1 dX3_starts_5 g1 e_S2 ?_
  refine zQ.s (fun h => zs_aload_n (i := 1) o dX3_starts_6 rfl rfl) ?_
  refine zQ.s (fun h => zs_iconst (v := 3) o dX3_starts_7 (by decide)) ?_
  refine zQ.s (fun h => zs_aload_n (i := 0) o dX3_starts_8 rfl rfl) ?_
  refine zm_getI o fl_X3_133_3 rfl dX3_starts_9 ?_
  obtain ⟨g3, hm⟩ := gd_e hm
  obtain ⟨S4, e_S4, hm⟩ := lt_e hm
  refine zm_rast o h_a1 dX3_starts_12 g3 e_S4 ?_
  refine zQ.s (fun h => zs_aload_n (i := 1) o dX3_starts_13 rfl rfl) ?_
  refine zQ.s (fun h => zs_bipush (v := 12) o dX3_starts_14 (by decide)) ?_
  refine zQ.s (fun h => zs_aload_n (i := 0) o dX3_starts_16 rfl rfl) ?_
  refine zm_getI o fl_X3_133_3 rfl dX3_starts_17 ?_
  refine zQ.s (fun h => zs_iload_n (i := 2) o dX3_starts_20 rfl rfl) ?_
  refine zQ.s (fun h => zs_iadd o dX3_starts_21) ?_
  obtain ⟨g5, hm⟩ := gd_e hm
  obtain ⟨S6, e_S6, hm⟩ := lt_e hm
  refine zm_rast o h_a1 dX3_starts_22 g5 e_S6 ?_
  refine zm_retv o f dX3_starts_23 (by omega) (by omega) ((so_e hm).trans hR9.symm)

def m_isAskedFor_j31 (k4 : MS → Int32 → Int32 → Int32 → Option (MS × Int32)) (S : MS) (x1 : Int32) (x3 : Int32) (s0 : Int32) : Option (MS × Int32) :=
  k4 S x1 s0 (x3 + (1 : Int32))
def m_isAskedFor_j26 (k4 : MS → Int32 → Int32 → Int32 → Option (MS × Int32)) (S : MS) (x1 : Int32) (x3 : Int32) : Option (MS × Int32) :=
  m_isAskedFor_j31 k4 S x1 x3 (1 : Int32)
def m_isAskedFor_b4 (k4 : MS → Int32 → Int32 → Int32 → Option (MS × Int32)) (S : MS) (x1 : Int32) (x2 : Int32) (x3 : Int32) : Option (MS × Int32) :=
  if (mS S 35) ≤ x3 then
    gd (b01 x2) <|
    some (S, x2)
  else
    if x2 = (0 : Int32) then
      gd (inb x3 2) <|
      if (mA S 33 (ix x3)) = x1 then
        m_isAskedFor_j26 k4 S x1 x3
      else
        m_isAskedFor_j31 k4 S x1 x3 (0 : Int32)
    else
      m_isAskedFor_j26 k4 S x1 x3
def m_isAskedFor_l4 : Nat → MS → Int32 → Int32 → Int32 → Option (MS × Int32)
  | 0 => fun _ _ _ _ => none
  | n + 1 => m_isAskedFor_b4 (m_isAskedFor_l4 n)
def m_isAskedFor (S : MS) (a1 : Int32) : Option (MS × Int32) :=
  m_isAskedFor_l4 100 S a1 (0 : Int32) (0 : Int32)

set_option maxHeartbeats 40000000 in
theorem M_isAskedFor (G : zG) (p : Nat) (g : MG) (q n : Nat) (S : MS) (a1 : Int32) (V : Int32) (S9 : MS) (hm : m_isAskedFor S a1 = some (S9, V)) : zMi G yX3_isAskedFor cX3_isAskedFor 4 (some .boolean) 0 0 0 p g q n [.int a1] S V S9 := by
  intro h0 h hI0
  refine zCo.st [some (zrf p), some (.int a1), none, none] rfl rfl (by simp only [zarg_r, zarg_i, zarg_l, zarg_0]; rfl) (fun X o f0 hin hw0 => ?_)
  have f := f0.e
  refine (?_ : zQ (IM h0 p g q n S) G X 0 0 0 [some (zrf p), some (.int a1), none, none] []) h hI0 hw0
  clear hI0 hw0
  generalize hR9 : ((S9, V) : (MS × Int32)) = R at hm
  have hl4 : ∀ (n4 : Nat), n4 ≤ 100 → ∀ (S : MS) (x1 : Int32) (x2 : Int32) (x3 : Int32) (cl sl : Nat), cl + (0) ≤ 0 → sl + (0) ≤ 0 → m_isAskedFor_l4 n4 S x1 x2 x3 = some R → zQ (IM h0 p g q n S) G X cl sl 4 [some (zrf p), some (.int x1), some (.int x2), some (.int x3)] [] := by
    intro n4
    induction n4 with
    | zero => intro _ S x1 x2 x3 cl sl _ _ hm; exact no_e hm
    | succ n4 ih =>
      intro hf4
      have ih4 := ih (by omega)
      have hj31 : ∀ (S : MS) (x1 : Int32) (x3 : Int32) (s0 : Int32) (cl sl : Nat), cl + (0) ≤ 0 → sl + (0) ≤ 0 → m_isAskedFor_j31 (m_isAskedFor_l4 n4) S x1 x3 s0 = some R → zQ (IM h0 p g q n S) G X cl sl 31 [some (zrf p), some (.int x1), none, some (.int x3)] [.int s0] := by
        intro S x1 x3 s0 cl sl hc hs hm
        unfold m_isAskedFor_j31 at hm
        refine zQ.s (fun h => zs_istore_n (i := 2) o dX3_isAskedFor_31 rfl (by decide) (Or.inr rfl) (by simp only [List.set_cons_succ, List.set_cons_zero]; rfl)) ?_
        refine zQ.s (fun h => zs_iinc (i := 3) (v := x3 + (1 : Int32)) o dX3_isAskedFor_32 rfl rfl (by decide) (Or.inr rfl) (by simp only [List.set_cons_succ, List.set_cons_zero]; rfl)) ?_
        refine zQ.s (fun h => zs_goto (tgt := 4) o dX3_isAskedFor_35 (by decide)) ?_
        exact ih4 _ _ _ _ _ _ (by omega) (by omega) hm
      have hj26 : ∀ (S : MS) (x1 : Int32) (x3 : Int32) (cl sl : Nat), cl + (0) ≤ 0 → sl + (0) ≤ 0 → m_isAskedFor_j26 (m_isAskedFor_l4 n4) S x1 x3 = some R → zQ (IM h0 p g q n S) G X cl sl 26 [some (zrf p), some (.int x1), none, some (.int x3)] [] := by
        intro S x1 x3 cl sl hc hs hm
        unfold m_isAskedFor_j26 at hm
        refine zQ.s (fun h => zs_iconst (v := 1) o dX3_isAskedFor_26 (by decide)) ?_
        refine zQ.s (fun h => zs_goto (tgt := 31) o dX3_isAskedFor_27 (by decide)) ?_
        exact hj31 _ _ _ _ _ _ (by omega) (by omega) hm
      intro S x1 x2 x3 cl sl hc hs hm
      have hm : m_isAskedFor_b4 (m_isAskedFor_l4 n4) S x1 x2 x3 = some R := hm
      unfold m_isAskedFor_b4 at hm
      refine zQ.s (fun h => zs_iload_n (i := 3) o dX3_isAskedFor_4 rfl rfl) ?_
      refine zQ.s (fun h => zs_aload_n (i := 0) o dX3_isAskedFor_5 rfl rfl) ?_
      refine zm_getI o fl_X3_222_3 rfl dX3_isAskedFor_6 ?_
      refine zQ.b (fun h => zs_icmp_ge (tgt := 38) o dX3_isAskedFor_9 (by decide)) (fun c => ?_) (fun c => ?_)
      · have hm := if_e1 hm c
        refine zQ.s (fun h => zs_iload_n (i := 2) o dX3_isAskedFor_38 rfl rfl) ?_
        obtain ⟨g1, hm⟩ := gd_e hm
        refine zm_reti o f dX3_isAskedFor_39 (b01_e g1).1 (by omega) (by omega) ((so_e hm).trans hR9.symm)
      · have hm := if_e2 hm c
        refine zQ.s (fun h => zs_iload_n (i := 2) o dX3_isAskedFor_12 rfl rfl) ?_
        refine zQ.b (fun h => zs_if_ne (tgt := 26) o dX3_isAskedFor_13 (by decide)) (fun c => ?_) (fun c => ?_)
        · have hm := if_e2 hm c
          refine zQ.fg (zl_s (zl_s (zl_n (zl_s zl_0)))) ?_
          exact hj26 _ _ _ _ _ (by omega) (by omega) hm
        · have hm := if_e1 hm c
          refine zQ.s (fun h => zs_aload_n (i := 0) o dX3_isAskedFor_16 rfl rfl) ?_
          refine zm_getR o fl_X3_95_3 rfl dX3_isAskedFor_17 ?_
          refine zQ.s (fun h => zs_iload_n (i := 3) o dX3_isAskedFor_20 rfl rfl) ?_
          obtain ⟨g2, hm⟩ := gd_e hm
          refine zm_iald o rfl dX3_isAskedFor_21 g2 ?_
          refine zQ.s (fun h => zs_iload_n (i := 1) o dX3_isAskedFor_22 rfl rfl) ?_
          refine zQ.b (fun h => zs_icmp_ne (tgt := 30) o dX3_isAskedFor_23 (by decide)) (fun c => ?_) (fun c => ?_)
          · have hm := if_e2 hm c
            refine zQ.s (fun h => zs_iconst (v := 0) o dX3_isAskedFor_30 (by decide)) ?_
            refine zQ.fg (zl_s (zl_s (zl_n (zl_s zl_0)))) ?_
            exact hj31 _ _ _ _ _ _ (by omega) (by omega) hm
          · have hm := if_e1 hm c
            refine zQ.fg (zl_s (zl_s (zl_n (zl_s zl_0)))) ?_
            exact hj26 _ _ _ _ _ (by omega) (by omega) hm
  unfold m_isAskedFor at hm
  refine zQ.s (fun h => zs_iconst (v := 0) o dX3_isAskedFor_0 (by decide)) ?_
  refine zQ.s (fun h => zs_istore_n (i := 2) o dX3_isAskedFor_1 rfl (by decide) (Or.inr rfl) (by simp only [List.set_cons_succ, List.set_cons_zero]; rfl)) ?_
  refine zQ.s (fun h => zs_iconst (v := 0) o dX3_isAskedFor_2 (by decide)) ?_
  refine zQ.s (fun h => zs_istore_n (i := 3) o dX3_isAskedFor_3 rfl (by decide) (Or.inr rfl) (by simp only [List.set_cons_succ, List.set_cons_zero]; rfl)) ?_
  exact hl4 100 (Nat.le_refl _) _ _ _ _ _ _ (by omega) (by omega) hm

def m_loads_j140 (k55 : MS → Int32 → Nat → Int32 → Int32 → Int32 → Int32 → Option (MS × Int32)) (S : MS) (x1 : Int32) (x2 : Nat) (x3 : Int32) (x4 : Int32) (x5 : Int32) (x6 : Int32) : Option (MS × Int32) :=
  k55 S x1 x2 x3 x4 x5 (x6 + (1 : Int32))
def m_loads_j138 (k55 : MS → Int32 → Nat → Int32 → Int32 → Int32 → Int32 → Option (MS × Int32)) (S : MS) (x1 : Int32) (x2 : Nat) (x3 : Int32) (x5 : Int32) (x6 : Int32) (s0 : Int32) : Option (MS × Int32) :=
  m_loads_j140 k55 S x1 x2 x3 s0 x5 x6
def m_loads_j136 (k55 : MS → Int32 → Nat → Int32 → Int32 → Int32 → Int32 → Option (MS × Int32)) (S : MS) (x1 : Int32) (x2 : Nat) (x3 : Int32) (x4 : Int32) (x5 : Int32) (x6 : Int32) : Option (MS × Int32) :=
  m_loads_j138 k55 S x1 x2 x3 x5 x6 x4
def m_loads_j102 (k55 : MS → Int32 → Nat → Int32 → Int32 → Int32 → Int32 → Option (MS × Int32)) (S : MS) (x1 : Int32) (x2 : Nat) (x3 : Int32) (x4 : Int32) (x6 : Int32) (x7 : Nat) (s0 : Int32) : Option (MS × Int32) :=
  gd (inb (11 : Int32) 28) <|
  if (mB S x7 (ix (11 : Int32))) = (101 : Int32) then
    gd (inb (13 : Int32) 28) <|
    if (mB S x7 (ix (13 : Int32))) = (0 : Int32) then
      gd (inb (14 : Int32) 28) <|
      if (mB S x7 (ix (14 : Int32))) = x3 then
        m_loads_j138 k55 S x1 x2 x3 s0 x6 x6
      else
        m_loads_j136 k55 S x1 x2 x3 x4 s0 x6
    else
      m_loads_j136 k55 S x1 x2 x3 x4 s0 x6
  else
    m_loads_j136 k55 S x1 x2 x3 x4 s0 x6
def m_loads_j101 (k55 : MS → Int32 → Nat → Int32 → Int32 → Int32 → Int32 → Option (MS × Int32)) (S : MS) (x1 : Int32) (x2 : Nat) (x3 : Int32) (x4 : Int32) (x6 : Int32) (x7 : Nat) : Option (MS × Int32) :=
  m_loads_j102 k55 S x1 x2 x3 x4 x6 x7 (0 : Int32)
def m_loads_j206 (S : MS) : Option (MS × Int32) :=
  some (S, (0 : Int32))
def m_loads_j376 (S : MS) (x2 : Nat) (x3 : Int32) : Option (MS × Int32) :=
  gd (inb (14 : Int32) 28) <|
  lt (tB S x2 (ix (14 : Int32)) x3) fun S2 =>
  bd (m_starts S2 x2 (0 : Int32)) fun y3 =>
  gd (inb (11 : Int32) 28) <|
  lt (tB y3 x2 (ix (11 : Int32)) (109 : Int32)) fun S5 =>
  some (S5, (1 : Int32))
def m_loads_j315 (S : MS) (x2 : Nat) (x3 : Int32) (x6 : Int32) : Option (MS × Int32) :=
  bd (m_isAskedFor S x6) fun y1 =>
  if y1.2 = (0 : Int32) then
    gd (inb (mS y1.1 35) 2) <|
    lt (tA y1.1 33 (ix (mS y1.1 35)) x6) fun S3 =>
    gd (inb x6 16) <|
    gd (inb (mS S3 35) 2) <|
    lt (tA S3 34 (ix (mS S3 35)) ((mS S3 36) + (mA S3 14 (ix x6)))) fun S6 =>
    lt (tS S6 35 ((mS S6 35) + (1 : Int32))) fun S7 =>
    lt (tS S7 53 ((mS S7 53) + (1 : Int32))) fun S8 =>
    m_loads_j376 S8 x2 x3
  else
    m_loads_j376 y1.1 x2 x3
def m_loads_j167 (S : MS) (x2 : Nat) (x3 : Int32) (x4 : Int32) : Option (MS × Int32) :=
  if x4 = (-1 : Int32) then
    lt (x3 / (4 : Int32)) fun v1 =>
    gd (inb (irm v1 (4 : Int32)) 4) <|
    if (mA S 32 (ix (irm v1 (4 : Int32)))) = v1 then
      lt (tS S 52 ((mS S 52) + (1 : Int32))) fun S4 =>
      gd (inb (14 : Int32) 28) <|
      lt (tB S4 x2 (ix (14 : Int32)) x3) fun S6 =>
      bd (m_starts S6 x2 (2 : Int32)) fun y7 =>
      some (y7, (1 : Int32))
    else
      bd (m_isAskedFor S v1) fun y3 =>
      if y3.2 = (0 : Int32) then
        if (mS y3.1 35) = (2 : Int32) then
          some (y3.1, (0 : Int32))
        else
          m_loads_j315 y3.1 x2 x3 v1
      else
        m_loads_j315 y3.1 x2 x3 v1
  else
    gd (inb x4 16) <|
    lt (mM S (ix x4)) fun r9 =>
    bd (m_codeOf S r9) fun y10 =>
    if y10.2 = (11 : Int32) then
      m_loads_j206 y10.1
    else
      gd (inb (8 : Int32) 28) <|
      gd (inb (mB y10.1 r9 (ix (8 : Int32))) 24) <|
      if (mA y10.1 19 (ix (mB y10.1 r9 (ix (8 : Int32))))) = (0 : Int32) then
        m_loads_j206 y10.1
      else
        gd (inb (14 : Int32) 28) <|
        lt (tB y10.1 x2 (ix (14 : Int32)) x3) fun S14 =>
        gd (inb (17 : Int32) 28) <|
        gd (inb (16 : Int32) 28) <|
        lt (tB S14 x2 (ix (16 : Int32)) (mB S14 r9 (ix (17 : Int32)))) fun S17 =>
        gd (inb (8 : Int32) 28) <|
        gd (inb (mB S17 r9 (ix (8 : Int32))) 24) <|
        gd (inb (15 : Int32) 28) <|
        lt (tB S17 x2 (ix (15 : Int32)) (mA S17 18 (ix (mB S17 r9 (ix (8 : Int32)))))) fun S21 =>
        lt (tS S21 51 ((mS S21 51) + (1 : Int32))) fun S22 =>
        bd (m_starts S22 x2 (1 : Int32)) fun y23 =>
        some (y23, (1 : Int32))
def m_loads_b55 (k55 : MS → Int32 → Nat → Int32 → Int32 → Int32 → Int32 → Option (MS × Int32)) (S : MS) (x1 : Int32) (x2 : Nat) (x3 : Int32) (x4 : Int32) (x5 : Int32) (x6 : Int32) : Option (MS × Int32) :=
  if x1 ≤ x6 then
    gd (inb (0 : Int32) 28) <|
    gd (inb (irm (mB S x2 (ix (0 : Int32))) (16 : Int32)) 16) <|
    if (mA S 31 (ix (irm (mB S x2 (ix (0 : Int32))) (16 : Int32)))) = (0 : Int32) then
      m_loads_j167 S x2 x3 x4
    else
      if x5 = (0 : Int32) then
        some (S, (0 : Int32))
      else
        m_loads_j167 S x2 x3 x4
  else
    gd (inb x6 16) <|
    lt (mM S (ix x6)) fun r4 =>
    bd (m_codeOf S r4) fun y5 =>
    bd (m_isStore y5.2) fun y6 =>
    if y6 = (0 : Int32) then
      m_loads_j140 k55 y5.1 x1 x2 x3 x4 x5 x6
    else
      if x5 = (0 : Int32) then
        m_loads_j101 k55 y5.1 x1 x2 x3 x4 x6 r4
      else
        gd (inb (11 : Int32) 28) <|
        if (mB y5.1 r4 (ix (11 : Int32))) = (101 : Int32) then
          m_loads_j102 k55 y5.1 x1 x2 x3 x4 x6 r4 (1 : Int32)
        else
          m_loads_j101 k55 y5.1 x1 x2 x3 x4 x6 r4
def m_loads_l55 : Nat → MS → Int32 → Nat → Int32 → Int32 → Int32 → Int32 → Option (MS × Int32)
  | 0 => fun _ _ _ _ _ _ _ => none
  | n + 1 => m_loads_b55 (m_loads_l55 n)
def m_loads (S : MS) (a1 : Int32) : Option (MS × Int32) :=
  gd (inb a1 16) <|
  lt (mM S (ix a1)) fun r2 =>
  gd (inb (7 : Int32) 28) <|
  gd (inb (mB S r2 (ix (7 : Int32))) 24) <|
  gd (inb (0 : Int32) 28) <|
  gd (inb (mB S r2 (ix (0 : Int32))) 64) <|
  lt ((mA S 18 (ix (mB S r2 (ix (7 : Int32))))) + (mA S 4 (ix (mB S r2 (ix (0 : Int32)))))) fun v7 =>
  bd (m_isAddress v7) fun y8 =>
  if y8 = (0 : Int32) then
    gd (inb (13 : Int32) 28) <|
    lt (tB S r2 (ix (13 : Int32)) (2 : Int32)) fun S10 =>
    bd (m_starts S10 r2 (1 : Int32)) fun y11 =>
    some (y11, (1 : Int32))
  else
    m_loads_l55 100 S a1 r2 v7 (-1 : Int32) (1 : Int32) (0 : Int32)

set_option maxHeartbeats 40000000 in
theorem M_loads (G : zG) (p : Nat) (g : MG) (q n : Nat) (S : MS) (a1 : Int32) (V : Int32) (S9 : MS) (hm : m_loads S a1 = some (S9, V)) : zMi G yX3_loads cX3_loads 8 (some .boolean) 2 0 0 p g q n [.int a1] S V S9 := by
  intro h0 h hI0
  refine zCo.st [some (zrf p), some (.int a1), none, none, none, none, none, none] rfl rfl (by simp only [zarg_r, zarg_i, zarg_l, zarg_0]; rfl) (fun X o f0 hin hw0 => ?_)
  have f := f0.e
  refine (?_ : zQ (IM h0 p g q n S) G X 0 0 0 [some (zrf p), some (.int a1), none, none, none, none, none, none] []) h hI0 hw0
  clear hI0 hw0
  generalize hR9 : ((S9, V) : (MS × Int32)) = R at hm
  have hj376 : ∀ (S : MS) (x2 : Nat) (x3 : Int32) (cl sl : Nat), cl + (0) ≤ 0 → sl + (0) ≤ 0 → x2 < 16 → m_loads_j376 S x2 x3 = some R → zQ (IM h0 p g q n S) G X cl sl 376 [some (zrf p), none, some (zrf (g.2.1 x2)), some (.int x3), none, none, none, none] [] := by
    intro S x2 x3 cl sl hc hs h_x2 hm
    unfold m_loads_j376 at hm
    refine zQ.s (fun h => zs_aload_n (i := 2) o dX3_loads_376 rfl rfl) ?_
    refine zQ.s (fun h => zs_bipush (v := 14) o dX3_loads_377 (by decide)) ?_
    refine zQ.s (fun h => zs_iload_n (i := 3) o dX3_loads_379 rfl rfl) ?_
    obtain ⟨g1, hm⟩ := gd_e hm
    obtain ⟨S2, e_S2, hm⟩ := lt_e hm
    refine zm_rast o h_x2 dX3_loads_380 g1 e_S2 ?_
    refine zQ.s (fun h => zs_aload_n (i := 0) o dX3_loads_381 rfl rfl) ?_
    refine zQ.s (fun h => zs_aload_n (i := 2) o dX3_loads_382 rfl rfl) ?_
    refine zQ.s (fun h => zs_iconst (v := 0) o dX3_loads_383 (by decide)) ?_
    obtain ⟨y3, c_y3, hm⟩ := bd_e hm
    refine zm_Vv o ml_X3_228 (M_starts G p g _ _ _ _ _ h_x2 _ c_y3) dX3_loads_384 rfl rfl rfl rfl (by omega) (by omega) ?_
    refine zQ.s (fun h => zs_aload_n (i := 2) o dX3_loads_387 rfl rfl) ?_
    refine zQ.s (fun h => zs_bipush (v := 11) o dX3_loads_388 (by decide)) ?_
    refine zQ.s (fun h => zs_bipush (v := 109) o dX3_loads_390 (by decide)) ?_
    obtain ⟨g4, hm⟩ := gd_e hm
    obtain ⟨S5, e_S5, hm⟩ := lt_e hm
    refine zm_rast o h_x2 dX3_loads_392 g4 e_S5 ?_
    refine zQ.s (fun h => zs_iconst (v := 1) o dX3_loads_393 (by decide)) ?_
    refine zm_reti o f dX3_loads_394 rfl (by omega) (by omega) ((so_e hm).trans hR9.symm)
  have hj315 : ∀ (S : MS) (x2 : Nat) (x3 : Int32) (x6 : Int32) (cl sl : Nat), cl + (0) ≤ 0 → sl + (0) ≤ 0 → x2 < 16 → m_loads_j315 S x2 x3 x6 = some R → zQ (IM h0 p g q n S) G X cl sl 315 [some (zrf p), none, some (zrf (g.2.1 x2)), some (.int x3), none, none, some (.int x6), none] [] := by
    intro S x2 x3 x6 cl sl hc hs h_x2 hm
    unfold m_loads_j315 at hm
    refine zQ.s (fun h => zs_aload_n (i := 0) o dX3_loads_315 rfl rfl) ?_
    refine zQ.s (fun h => zs_iload (i := 6) o dX3_loads_316 rfl) ?_
    obtain ⟨y1, c_y1, hm⟩ := bd_e hm
    refine zm_Vi o ml_X3_240 (M_isAskedFor G p g _ _ _ _ _ _ c_y1) dX3_loads_318 rfl rfl rfl rfl (by omega) (by omega) ?_
    refine zQ.b (fun h => zs_if_ne (tgt := 376) o dX3_loads_321 (by decide)) (fun c => ?_) (fun c => ?_)
    · have hm := if_e2 hm c
      refine zQ.fg (zl_s (zl_n (zl_s (zl_s (zl_n (zl_n (zl_n (zl_n zl_0)))))))) ?_
      exact hj376 _ _ _ _ _ (by omega) (by omega) h_x2 hm
    · have hm := if_e1 hm c
      refine zQ.s (fun h => zs_aload_n (i := 0) o dX3_loads_324 rfl rfl) ?_
      refine zm_getR o fl_X3_95_3 rfl dX3_loads_325 ?_
      refine zQ.s (fun h => zs_aload_n (i := 0) o dX3_loads_328 rfl rfl) ?_
      refine zm_getI o fl_X3_222_3 rfl dX3_loads_329 ?_
      refine zQ.s (fun h => zs_iload (i := 6) o dX3_loads_332 rfl) ?_
      obtain ⟨g2, hm⟩ := gd_e hm
      obtain ⟨S3, e_S3, hm⟩ := lt_e hm
      refine zm_iast o rfl dX3_loads_334 g2 e_S3 ?_
      refine zQ.s (fun h => zs_aload_n (i := 0) o dX3_loads_335 rfl rfl) ?_
      refine zm_getR o fl_X3_98_3 rfl dX3_loads_336 ?_
      refine zQ.s (fun h => zs_aload_n (i := 0) o dX3_loads_339 rfl rfl) ?_
      refine zm_getI o fl_X3_222_3 rfl dX3_loads_340 ?_
      refine zQ.s (fun h => zs_aload_n (i := 0) o dX3_loads_343 rfl rfl) ?_
      refine zm_getI o fl_X3_133_3 rfl dX3_loads_344 ?_
      refine zQ.s (fun h => zs_aload_n (i := 0) o dX3_loads_347 rfl rfl) ?_
      refine zm_getR o fl_X3_50_3 rfl dX3_loads_348 ?_
      refine zQ.s (fun h => zs_iload (i := 6) o dX3_loads_351 rfl) ?_
      obtain ⟨g4, hm⟩ := gd_e hm
      refine zm_iald o rfl dX3_loads_353 g4 ?_
      refine zQ.s (fun h => zs_iadd o dX3_loads_354) ?_
      obtain ⟨g5, hm⟩ := gd_e hm
      obtain ⟨S6, e_S6, hm⟩ := lt_e hm
      refine zm_iast o rfl dX3_loads_355 g5 e_S6 ?_
      refine zQ.s (fun h => zs_aload_n (i := 0) o dX3_loads_356 rfl rfl) ?_
      refine zQ.s (fun h => zs_dup o dX3_loads_357 (by first | rfl | exact zrf_cat _)) ?_
      refine zm_getI o fl_X3_222_3 rfl dX3_loads_358 ?_
      refine zQ.s (fun h => zs_iconst (v := 1) o dX3_loads_361 (by decide)) ?_
      refine zQ.s (fun h => zs_iadd o dX3_loads_362) ?_
      obtain ⟨S7, e_S7, hm⟩ := lt_e hm
      refine zm_putI o fl_X3_222_3 rfl rfl ⟨rfl, rfl⟩ dX3_loads_363 e_S7 ?_
      refine zQ.s (fun h => zs_aload_n (i := 0) o dX3_loads_366 rfl rfl) ?_
      refine zQ.s (fun h => zs_dup o dX3_loads_367 (by first | rfl | exact zrf_cat _)) ?_
      refine zm_getI o fl_X3_243_3 rfl dX3_loads_368 ?_
      refine zQ.s (fun h => zs_iconst (v := 1) o dX3_loads_371 (by decide)) ?_
      refine zQ.s (fun h => zs_iadd o dX3_loads_372) ?_
      obtain ⟨S8, e_S8, hm⟩ := lt_e hm
      refine zm_putI o fl_X3_243_3 rfl rfl ⟨rfl, rfl⟩ dX3_loads_373 e_S8 ?_
      refine zQ.fg (zl_s (zl_n (zl_s (zl_s (zl_n (zl_n (zl_n (zl_n zl_0)))))))) ?_
      exact hj376 _ _ _ _ _ (by omega) (by omega) h_x2 hm
  have hj206 : ∀ (S : MS) (cl sl : Nat), cl + (0) ≤ 0 → sl + (0) ≤ 0 → m_loads_j206 S = some R → zQ (IM h0 p g q n S) G X cl sl 206 [none, none, none, none, none, none, none, none] [] := by
    intro S cl sl hc hs hm
    unfold m_loads_j206 at hm
    refine zQ.s (fun h => zs_iconst (v := 0) o dX3_loads_206 (by decide)) ?_
    refine zm_reti o f dX3_loads_207 rfl (by omega) (by omega) ((so_e hm).trans hR9.symm)
  have hj167 : ∀ (S : MS) (x2 : Nat) (x3 : Int32) (x4 : Int32) (cl sl : Nat), cl + (0) ≤ 0 → sl + (0) ≤ 0 → x2 < 16 → m_loads_j167 S x2 x3 x4 = some R → zQ (IM h0 p g q n S) G X cl sl 167 [some (zrf p), none, some (zrf (g.2.1 x2)), some (.int x3), some (.int x4), none, none, none] [] := by
    intro S x2 x3 x4 cl sl hc hs h_x2 hm
    unfold m_loads_j167 at hm
    refine zQ.s (fun h => zs_iload (i := 4) o dX3_loads_167 rfl) ?_
    refine zQ.s (fun h => zs_iconst (v := -1) o dX3_loads_169 (by decide)) ?_
    refine zQ.b (fun h => zs_icmp_eq (tgt := 254) o dX3_loads_170 (by decide)) (fun c => ?_) (fun c => ?_)
    · have hm := if_e1 hm c
      refine zQ.s (fun h => zs_iload_n (i := 3) o dX3_loads_254 rfl rfl) ?_
      refine zQ.s (fun h => zs_iconst (v := 4) o dX3_loads_255 (by decide)) ?_
      refine zQ.s (fun h => zs_idiv o dX3_loads_256 (by decide)) ?_
      obtain ⟨v1, e_v1, hm⟩ := lt_e hm
      refine zQ.nmi e_v1 ?_
      refine zQ.s (fun h => zs_istore (i := 6) o dX3_loads_257 (by decide) (Or.inr rfl) (by simp only [List.set_cons_succ, List.set_cons_zero]; rfl)) ?_
      refine zQ.s (fun h => zs_aload_n (i := 0) o dX3_loads_259 rfl rfl) ?_
      refine zm_getR o fl_X3_92_3 rfl dX3_loads_260 ?_
      refine zQ.s (fun h => zs_iload (i := 6) o dX3_loads_263 rfl) ?_
      refine zQ.s (fun h => zs_iconst (v := 4) o dX3_loads_265 (by decide)) ?_
      refine zQ.s (fun h => zs_irem o dX3_loads_266 (by decide)) ?_
      obtain ⟨g2, hm⟩ := gd_e hm
      refine zm_iald o rfl dX3_loads_267 g2 ?_
      refine zQ.s (fun h => zs_iload (i := 6) o dX3_loads_268 rfl) ?_
      refine zQ.b (fun h => zs_icmp_ne (tgt := 296) o dX3_loads_270 (by decide)) (fun c => ?_) (fun c => ?_)
      · have hm := if_e2 hm c
        refine zQ.s (fun h => zs_aload_n (i := 0) o dX3_loads_296 rfl rfl) ?_
        refine zQ.s (fun h => zs_iload (i := 6) o dX3_loads_297 rfl) ?_
        obtain ⟨y3, c_y3, hm⟩ := bd_e hm
        refine zm_Vi o ml_X3_240 (M_isAskedFor G p g _ _ _ _ _ _ c_y3) dX3_loads_299 rfl rfl rfl rfl (by omega) (by omega) ?_
        refine zQ.b (fun h => zs_if_ne (tgt := 315) o dX3_loads_302 (by decide)) (fun c => ?_) (fun c => ?_)
        · have hm := if_e2 hm c
          refine zQ.fg (zl_s (zl_n (zl_s (zl_s (zl_n (zl_n (zl_s (zl_n zl_0)))))))) ?_
          exact hj315 _ _ _ _ _ _ (by omega) (by omega) h_x2 hm
        · have hm := if_e1 hm c
          refine zQ.s (fun h => zs_aload_n (i := 0) o dX3_loads_305 rfl rfl) ?_
          refine zm_getI o fl_X3_222_3 rfl dX3_loads_306 ?_
          refine zQ.s (fun h => zs_iconst (v := 2) o dX3_loads_309 (by decide)) ?_
          refine zQ.b (fun h => zs_icmp_ne (tgt := 315) o dX3_loads_310 (by decide)) (fun c => ?_) (fun c => ?_)
          · have hm := if_e2 hm c
            refine zQ.fg (zl_s (zl_n (zl_s (zl_s (zl_n (zl_n (zl_s (zl_n zl_0)))))))) ?_
            exact hj315 _ _ _ _ _ _ (by omega) (by omega) h_x2 hm
          · have hm := if_e1 hm c
            refine zQ.s (fun h => zs_iconst (v := 0) o dX3_loads_313 (by decide)) ?_
            refine zm_reti o f dX3_loads_314 rfl (by omega) (by omega) ((so_e hm).trans hR9.symm)
      · have hm := if_e1 hm c
        refine zQ.s (fun h => zs_aload_n (i := 0) o dX3_loads_273 rfl rfl) ?_
        refine zQ.s (fun h => zs_dup o dX3_loads_274 (by first | rfl | exact zrf_cat _)) ?_
        refine zm_getI o fl_X3_237_3 rfl dX3_loads_275 ?_
        refine zQ.s (fun h => zs_iconst (v := 1) o dX3_loads_278 (by decide)) ?_
        refine zQ.s (fun h => zs_iadd o dX3_loads_279) ?_
        obtain ⟨S4, e_S4, hm⟩ := lt_e hm
        refine zm_putI o fl_X3_237_3 rfl rfl ⟨rfl, rfl⟩ dX3_loads_280 e_S4 ?_
        refine zQ.s (fun h => zs_aload_n (i := 2) o dX3_loads_283 rfl rfl) ?_
        refine zQ.s (fun h => zs_bipush (v := 14) o dX3_loads_284 (by decide)) ?_
        refine zQ.s (fun h => zs_iload_n (i := 3) o dX3_loads_286 rfl rfl) ?_
        obtain ⟨g5, hm⟩ := gd_e hm
        obtain ⟨S6, e_S6, hm⟩ := lt_e hm
        refine zm_rast o h_x2 dX3_loads_287 g5 e_S6 ?_
        refine zQ.s (fun h => zs_aload_n (i := 0) o dX3_loads_288 rfl rfl) ?_
        refine zQ.s (fun h => zs_aload_n (i := 2) o dX3_loads_289 rfl rfl) ?_
        refine zQ.s (fun h => zs_iconst (v := 2) o dX3_loads_290 (by decide)) ?_
        obtain ⟨y7, c_y7, hm⟩ := bd_e hm
        refine zm_Vv o ml_X3_228 (M_starts G p g _ _ _ _ _ h_x2 _ c_y7) dX3_loads_291 rfl rfl rfl rfl (by omega) (by omega) ?_
        refine zQ.s (fun h => zs_iconst (v := 1) o dX3_loads_294 (by decide)) ?_
        refine zm_reti o f dX3_loads_295 rfl (by omega) (by omega) ((so_e hm).trans hR9.symm)
    · have hm := if_e2 hm c
      refine zQ.s (fun h => zs_aload_n (i := 0) o dX3_loads_173 rfl rfl) ?_
      refine zm_getR o fl_X3_74_3 rfl dX3_loads_174 ?_
      refine zQ.s (fun h => zs_iload (i := 4) o dX3_loads_177 rfl) ?_
      obtain ⟨g8, hm⟩ := gd_e hm
      obtain ⟨r9, e_r9, hm⟩ := lt_e hm
      refine zm_row o dX3_loads_179 g8 e_r9 (fun h_r9 => ?_)
      refine zQ.s (fun h => zs_astore (i := 6) o dX3_loads_180 (by decide) (Or.inr rfl) (by simp only [List.set_cons_succ, List.set_cons_zero]; rfl)) ?_
      refine zQ.s (fun h => zs_aload_n (i := 0) o dX3_loads_182 rfl rfl) ?_
      refine zQ.s (fun h => zs_aload (i := 6) o dX3_loads_183 rfl) ?_
      obtain ⟨y10, c_y10, hm⟩ := bd_e hm
      refine zm_Vi o ml_X3_201 (M_codeOf G p g _ _ _ _ h_r9 _ _ c_y10) dX3_loads_185 rfl rfl rfl rfl (by omega) (by omega) ?_
      refine zQ.s (fun h => zs_bipush (v := 11) o dX3_loads_188 (by decide)) ?_
      refine zQ.b (fun h => zs_icmp_eq (tgt := 206) o dX3_loads_190 (by decide)) (fun c => ?_) (fun c => ?_)
      · have hm := if_e1 hm c
        refine zQ.fg (zl_n (zl_n (zl_n (zl_n (zl_n (zl_n (zl_n (zl_n zl_0)))))))) ?_
        exact hj206 _ _ _ (by omega) (by omega) hm
      · have hm := if_e2 hm c
        refine zQ.s (fun h => zs_aload_n (i := 0) o dX3_loads_193 rfl rfl) ?_
        refine zm_getR o fl_X3_65_3 rfl dX3_loads_194 ?_
        refine zQ.s (fun h => zs_aload (i := 6) o dX3_loads_197 rfl) ?_
        refine zQ.s (fun h => zs_bipush (v := 8) o dX3_loads_199 (by decide)) ?_
        obtain ⟨g11, hm⟩ := gd_e hm
        refine zm_rald o h_r9 dX3_loads_201 g11 ?_
        obtain ⟨g12, hm⟩ := gd_e hm
        refine zm_bald o rfl dX3_loads_202 g12 ?_
        refine zQ.b (fun h => zs_if_ne (tgt := 208) o dX3_loads_203 (by decide)) (fun c => ?_) (fun c => ?_)
        · have hm := if_e2 hm c
          refine zQ.s (fun h => zs_aload_n (i := 2) o dX3_loads_208 rfl rfl) ?_
          refine zQ.s (fun h => zs_bipush (v := 14) o dX3_loads_209 (by decide)) ?_
          refine zQ.s (fun h => zs_iload_n (i := 3) o dX3_loads_211 rfl rfl) ?_
          obtain ⟨g13, hm⟩ := gd_e hm
          obtain ⟨S14, e_S14, hm⟩ := lt_e hm
          refine zm_rast o h_x2 dX3_loads_212 g13 e_S14 ?_
          refine zQ.s (fun h => zs_aload_n (i := 2) o dX3_loads_213 rfl rfl) ?_
          refine zQ.s (fun h => zs_bipush (v := 16) o dX3_loads_214 (by decide)) ?_
          refine zQ.s (fun h => zs_aload (i := 6) o dX3_loads_216 rfl) ?_
          refine zQ.s (fun h => zs_bipush (v := 17) o dX3_loads_218 (by decide)) ?_
          obtain ⟨g15, hm⟩ := gd_e hm
          refine zm_rald o h_r9 dX3_loads_220 g15 ?_
          obtain ⟨g16, hm⟩ := gd_e hm
          obtain ⟨S17, e_S17, hm⟩ := lt_e hm
          refine zm_rast o h_x2 dX3_loads_221 g16 e_S17 ?_
          refine zQ.s (fun h => zs_aload_n (i := 2) o dX3_loads_222 rfl rfl) ?_
          refine zQ.s (fun h => zs_bipush (v := 15) o dX3_loads_223 (by decide)) ?_
          refine zQ.s (fun h => zs_aload_n (i := 0) o dX3_loads_225 rfl rfl) ?_
          refine zm_getR o fl_X3_62_3 rfl dX3_loads_226 ?_
          refine zQ.s (fun h => zs_aload (i := 6) o dX3_loads_229 rfl) ?_
          refine zQ.s (fun h => zs_bipush (v := 8) o dX3_loads_231 (by decide)) ?_
          obtain ⟨g18, hm⟩ := gd_e hm
          refine zm_rald o h_r9 dX3_loads_233 g18 ?_
          obtain ⟨g19, hm⟩ := gd_e hm
          refine zm_iald o rfl dX3_loads_234 g19 ?_
          obtain ⟨g20, hm⟩ := gd_e hm
          obtain ⟨S21, e_S21, hm⟩ := lt_e hm
          refine zm_rast o h_x2 dX3_loads_235 g20 e_S21 ?_
          refine zQ.s (fun h => zs_aload_n (i := 0) o dX3_loads_236 rfl rfl) ?_
          refine zQ.s (fun h => zs_dup o dX3_loads_237 (by first | rfl | exact zrf_cat _)) ?_
          refine zm_getI o fl_X3_234_3 rfl dX3_loads_238 ?_
          refine zQ.s (fun h => zs_iconst (v := 1) o dX3_loads_241 (by decide)) ?_
          refine zQ.s (fun h => zs_iadd o dX3_loads_242) ?_
          obtain ⟨S22, e_S22, hm⟩ := lt_e hm
          refine zm_putI o fl_X3_234_3 rfl rfl ⟨rfl, rfl⟩ dX3_loads_243 e_S22 ?_
          refine zQ.s (fun h => zs_aload_n (i := 0) o dX3_loads_246 rfl rfl) ?_
          refine zQ.s (fun h => zs_aload_n (i := 2) o dX3_loads_247 rfl rfl) ?_
          refine zQ.s (fun h => zs_iconst (v := 1) o dX3_loads_248 (by decide)) ?_
          obtain ⟨y23, c_y23, hm⟩ := bd_e hm
          refine zm_Vv o ml_X3_228 (M_starts G p g _ _ _ _ _ h_x2 _ c_y23) dX3_loads_249 rfl rfl rfl rfl (by omega) (by omega) ?_
          refine zQ.s (fun h => zs_iconst (v := 1) o dX3_loads_252 (by decide)) ?_
          refine zm_reti o f dX3_loads_253 rfl (by omega) (by omega) ((so_e hm).trans hR9.symm)
        · have hm := if_e1 hm c
          refine zQ.fg (zl_n (zl_n (zl_n (zl_n (zl_n (zl_n (zl_n (zl_n zl_0)))))))) ?_
          exact hj206 _ _ _ (by omega) (by omega) hm
  have hl55 : ∀ (n55 : Nat), n55 ≤ 100 → ∀ (S : MS) (x1 : Int32) (x2 : Nat) (x3 : Int32) (x4 : Int32) (x5 : Int32) (x6 : Int32) (cl sl : Nat), cl + (0) ≤ 0 → sl + (0) ≤ 0 → x2 < 16 → m_loads_l55 n55 S x1 x2 x3 x4 x5 x6 = some R → zQ (IM h0 p g q n S) G X cl sl 55 [some (zrf p), some (.int x1), some (zrf (g.2.1 x2)), some (.int x3), some (.int x4), some (.int x5), some (.int x6), none] [] := by
    intro n55
    induction n55 with
    | zero => intro _ S x1 x2 x3 x4 x5 x6 cl sl _ _ h_x2 hm; exact no_e hm
    | succ n55 ih =>
      intro hf55
      have ih55 := ih (by omega)
      have hj140 : ∀ (S : MS) (x1 : Int32) (x2 : Nat) (x3 : Int32) (x4 : Int32) (x5 : Int32) (x6 : Int32) (cl sl : Nat), cl + (0) ≤ 0 → sl + (0) ≤ 0 → x2 < 16 → m_loads_j140 (m_loads_l55 n55) S x1 x2 x3 x4 x5 x6 = some R → zQ (IM h0 p g q n S) G X cl sl 140 [some (zrf p), some (.int x1), some (zrf (g.2.1 x2)), some (.int x3), some (.int x4), some (.int x5), some (.int x6), none] [] := by
        intro S x1 x2 x3 x4 x5 x6 cl sl hc hs h_x2 hm
        unfold m_loads_j140 at hm
        refine zQ.s (fun h => zs_iinc (i := 6) (v := x6 + (1 : Int32)) o dX3_loads_140 rfl rfl (by decide) (Or.inr rfl) (by simp only [List.set_cons_succ, List.set_cons_zero]; rfl)) ?_
        refine zQ.s (fun h => zs_goto (tgt := 55) o dX3_loads_143 (by decide)) ?_
        exact ih55 _ _ _ _ _ _ _ _ _ (by omega) (by omega) h_x2 hm
      have hj138 : ∀ (S : MS) (x1 : Int32) (x2 : Nat) (x3 : Int32) (x5 : Int32) (x6 : Int32) (s0 : Int32) (cl sl : Nat), cl + (0) ≤ 0 → sl + (0) ≤ 0 → x2 < 16 → m_loads_j138 (m_loads_l55 n55) S x1 x2 x3 x5 x6 s0 = some R → zQ (IM h0 p g q n S) G X cl sl 138 [some (zrf p), some (.int x1), some (zrf (g.2.1 x2)), some (.int x3), none, some (.int x5), some (.int x6), none] [.int s0] := by
        intro S x1 x2 x3 x5 x6 s0 cl sl hc hs h_x2 hm
        unfold m_loads_j138 at hm
        refine zQ.s (fun h => zs_istore (i := 4) o dX3_loads_138 (by decide) (Or.inr rfl) (by simp only [List.set_cons_succ, List.set_cons_zero]; rfl)) ?_
        exact hj140 _ _ _ _ _ _ _ _ _ (by omega) (by omega) h_x2 hm
      have hj136 : ∀ (S : MS) (x1 : Int32) (x2 : Nat) (x3 : Int32) (x4 : Int32) (x5 : Int32) (x6 : Int32) (cl sl : Nat), cl + (0) ≤ 0 → sl + (0) ≤ 0 → x2 < 16 → m_loads_j136 (m_loads_l55 n55) S x1 x2 x3 x4 x5 x6 = some R → zQ (IM h0 p g q n S) G X cl sl 136 [some (zrf p), some (.int x1), some (zrf (g.2.1 x2)), some (.int x3), some (.int x4), some (.int x5), some (.int x6), none] [] := by
        intro S x1 x2 x3 x4 x5 x6 cl sl hc hs h_x2 hm
        unfold m_loads_j136 at hm
        refine zQ.s (fun h => zs_iload (i := 4) o dX3_loads_136 rfl) ?_
        refine zQ.fg (zl_s (zl_s (zl_s (zl_s (zl_n (zl_s (zl_s (zl_n zl_0)))))))) ?_
        exact hj138 _ _ _ _ _ _ _ _ _ (by omega) (by omega) h_x2 hm
      have hj102 : ∀ (S : MS) (x1 : Int32) (x2 : Nat) (x3 : Int32) (x4 : Int32) (x6 : Int32) (x7 : Nat) (s0 : Int32) (cl sl : Nat), cl + (0) ≤ 0 → sl + (0) ≤ 0 → x2 < 16 → x7 < 16 → m_loads_j102 (m_loads_l55 n55) S x1 x2 x3 x4 x6 x7 s0 = some R → zQ (IM h0 p g q n S) G X cl sl 102 [some (zrf p), some (.int x1), some (zrf (g.2.1 x2)), some (.int x3), some (.int x4), none, some (.int x6), some (zrf (g.2.1 x7))] [.int s0] := by
        intro S x1 x2 x3 x4 x6 x7 s0 cl sl hc hs h_x2 h_x7 hm
        unfold m_loads_j102 at hm
        refine zQ.s (fun h => zs_istore (i := 5) o dX3_loads_102 (by decide) (Or.inr rfl) (by simp only [List.set_cons_succ, List.set_cons_zero]; rfl)) ?_
        refine zQ.s (fun h => zs_aload (i := 7) o dX3_loads_104 rfl) ?_
        refine zQ.s (fun h => zs_bipush (v := 11) o dX3_loads_106 (by decide)) ?_
        obtain ⟨g1, hm⟩ := gd_e hm
        refine zm_rald o h_x7 dX3_loads_108 g1 ?_
        refine zQ.s (fun h => zs_bipush (v := 101) o dX3_loads_109 (by decide)) ?_
        refine zQ.b (fun h => zs_icmp_ne (tgt := 136) o dX3_loads_111 (by decide)) (fun c => ?_) (fun c => ?_)
        · have hm := if_e2 hm c
          refine zQ.fg (zl_s (zl_s (zl_s (zl_s (zl_s (zl_s (zl_s (zl_n zl_0)))))))) ?_
          exact hj136 _ _ _ _ _ _ _ _ _ (by omega) (by omega) h_x2 hm
        · have hm := if_e1 hm c
          refine zQ.s (fun h => zs_aload (i := 7) o dX3_loads_114 rfl) ?_
          refine zQ.s (fun h => zs_bipush (v := 13) o dX3_loads_116 (by decide)) ?_
          obtain ⟨g2, hm⟩ := gd_e hm
          refine zm_rald o h_x7 dX3_loads_118 g2 ?_
          refine zQ.b (fun h => zs_if_ne (tgt := 136) o dX3_loads_119 (by decide)) (fun c => ?_) (fun c => ?_)
          · have hm := if_e2 hm c
            refine zQ.fg (zl_s (zl_s (zl_s (zl_s (zl_s (zl_s (zl_s (zl_n zl_0)))))))) ?_
            exact hj136 _ _ _ _ _ _ _ _ _ (by omega) (by omega) h_x2 hm
          · have hm := if_e1 hm c
            refine zQ.s (fun h => zs_aload (i := 7) o dX3_loads_122 rfl) ?_
            refine zQ.s (fun h => zs_bipush (v := 14) o dX3_loads_124 (by decide)) ?_
            obtain ⟨g3, hm⟩ := gd_e hm
            refine zm_rald o h_x7 dX3_loads_126 g3 ?_
            refine zQ.s (fun h => zs_iload_n (i := 3) o dX3_loads_127 rfl rfl) ?_
            refine zQ.b (fun h => zs_icmp_ne (tgt := 136) o dX3_loads_128 (by decide)) (fun c => ?_) (fun c => ?_)
            · have hm := if_e2 hm c
              refine zQ.fg (zl_s (zl_s (zl_s (zl_s (zl_s (zl_s (zl_s (zl_n zl_0)))))))) ?_
              exact hj136 _ _ _ _ _ _ _ _ _ (by omega) (by omega) h_x2 hm
            · have hm := if_e1 hm c
              refine zQ.s (fun h => zs_iload (i := 6) o dX3_loads_131 rfl) ?_
              refine zQ.s (fun h => zs_goto (tgt := 138) o dX3_loads_133 (by decide)) ?_
              refine zQ.fg (zl_s (zl_s (zl_s (zl_s (zl_n (zl_s (zl_s (zl_n zl_0)))))))) ?_
              exact hj138 _ _ _ _ _ _ _ _ _ (by omega) (by omega) h_x2 hm
      have hj101 : ∀ (S : MS) (x1 : Int32) (x2 : Nat) (x3 : Int32) (x4 : Int32) (x6 : Int32) (x7 : Nat) (cl sl : Nat), cl + (0) ≤ 0 → sl + (0) ≤ 0 → x2 < 16 → x7 < 16 → m_loads_j101 (m_loads_l55 n55) S x1 x2 x3 x4 x6 x7 = some R → zQ (IM h0 p g q n S) G X cl sl 101 [some (zrf p), some (.int x1), some (zrf (g.2.1 x2)), some (.int x3), some (.int x4), none, some (.int x6), some (zrf (g.2.1 x7))] [] := by
        intro S x1 x2 x3 x4 x6 x7 cl sl hc hs h_x2 h_x7 hm
        unfold m_loads_j101 at hm
        refine zQ.s (fun h => zs_iconst (v := 0) o dX3_loads_101 (by decide)) ?_
        exact hj102 _ _ _ _ _ _ _ _ _ _ (by omega) (by omega) h_x2 h_x7 hm
      intro S x1 x2 x3 x4 x5 x6 cl sl hc hs h_x2 hm
      have hm : m_loads_b55 (m_loads_l55 n55) S x1 x2 x3 x4 x5 x6 = some R := hm
      unfold m_loads_b55 at hm
      refine zQ.s (fun h => zs_iload (i := 6) o dX3_loads_55 rfl) ?_
      refine zQ.s (fun h => zs_iload_n (i := 1) o dX3_loads_57 rfl rfl) ?_
      refine zQ.b (fun h => zs_icmp_ge (tgt := 146) o dX3_loads_58 (by decide)) (fun c => ?_) (fun c => ?_)
      · have hm := if_e1 hm c
        refine zQ.s (fun h => zs_aload_n (i := 0) o dX3_loads_146 rfl rfl) ?_
        refine zm_getR o fl_X3_89_3 rfl dX3_loads_147 ?_
        refine zQ.s (fun h => zs_aload_n (i := 2) o dX3_loads_150 rfl rfl) ?_
        refine zQ.s (fun h => zs_iconst (v := 0) o dX3_loads_151 (by decide)) ?_
        obtain ⟨g1, hm⟩ := gd_e hm
        refine zm_rald o h_x2 dX3_loads_152 g1 ?_
        refine zQ.s (fun h => zs_bipush (v := 16) o dX3_loads_153 (by decide)) ?_
        refine zQ.s (fun h => zs_irem o dX3_loads_155 (by decide)) ?_
        obtain ⟨g2, hm⟩ := gd_e hm
        refine zm_bald o rfl dX3_loads_156 g2 ?_
        refine zQ.b (fun h => zs_if_eq (tgt := 167) o dX3_loads_157 (by decide)) (fun c => ?_) (fun c => ?_)
        · have hm := if_e1 hm c
          refine zQ.fg (zl_s (zl_n (zl_s (zl_s (zl_s (zl_n (zl_n (zl_n zl_0)))))))) ?_
          exact hj167 _ _ _ _ _ _ (by omega) (by omega) h_x2 hm
        · have hm := if_e2 hm c
          refine zQ.s (fun h => zs_iload (i := 5) o dX3_loads_160 rfl) ?_
          refine zQ.b (fun h => zs_if_ne (tgt := 167) o dX3_loads_162 (by decide)) (fun c => ?_) (fun c => ?_)
          · have hm := if_e2 hm c
            refine zQ.fg (zl_s (zl_n (zl_s (zl_s (zl_s (zl_n (zl_n (zl_n zl_0)))))))) ?_
            exact hj167 _ _ _ _ _ _ (by omega) (by omega) h_x2 hm
          · have hm := if_e1 hm c
            refine zQ.s (fun h => zs_iconst (v := 0) o dX3_loads_165 (by decide)) ?_
            refine zm_reti o f dX3_loads_166 rfl (by omega) (by omega) ((so_e hm).trans hR9.symm)
      · have hm := if_e2 hm c
        refine zQ.s (fun h => zs_aload_n (i := 0) o dX3_loads_61 rfl rfl) ?_
        refine zm_getR o fl_X3_74_3 rfl dX3_loads_62 ?_
        refine zQ.s (fun h => zs_iload (i := 6) o dX3_loads_65 rfl) ?_
        obtain ⟨g3, hm⟩ := gd_e hm
        obtain ⟨r4, e_r4, hm⟩ := lt_e hm
        refine zm_row o dX3_loads_67 g3 e_r4 (fun h_r4 => ?_)
        refine zQ.s (fun h => zs_astore (i := 7) o dX3_loads_68 (by decide) (Or.inr rfl) (by simp only [List.set_cons_succ, List.set_cons_zero]; rfl)) ?_
        refine zQ.s (fun h => zs_aload_n (i := 0) o dX3_loads_70 rfl rfl) ?_
        refine zQ.s (fun h => zs_aload (i := 7) o dX3_loads_71 rfl) ?_
        obtain ⟨y5, c_y5, hm⟩ := bd_e hm
        refine zm_Vi o ml_X3_201 (M_codeOf G p g _ _ _ _ h_r4 _ _ c_y5) dX3_loads_73 rfl rfl rfl rfl (by omega) (by omega) ?_
        obtain ⟨y6, c_y6, hm⟩ := bd_e hm
        refine zQ_Si o ml_X3_231 (M_isStore G _ _ c_y6) dX3_loads_76 rfl rfl rfl rfl (by omega) (by omega) ?_
        refine zQ.b (fun h => zs_if_eq (tgt := 140) o dX3_loads_79 (by decide)) (fun c => ?_) (fun c => ?_)
        · have hm := if_e1 hm c
          refine zQ.fg (zl_s (zl_s (zl_s (zl_s (zl_s (zl_s (zl_s (zl_n zl_0)))))))) ?_
          exact hj140 _ _ _ _ _ _ _ _ _ (by omega) (by omega) h_x2 hm
        · have hm := if_e2 hm c
          refine zQ.s (fun h => zs_iload (i := 5) o dX3_loads_82 rfl) ?_
          refine zQ.b (fun h => zs_if_eq (tgt := 101) o dX3_loads_84 (by decide)) (fun c => ?_) (fun c => ?_)
          · have hm := if_e1 hm c
            refine zQ.fg (zl_s (zl_s (zl_s (zl_s (zl_s (zl_n (zl_s (zl_s zl_0)))))))) ?_
            exact hj101 _ _ _ _ _ _ _ _ _ (by omega) (by omega) h_x2 h_r4 hm
          · have hm := if_e2 hm c
            refine zQ.s (fun h => zs_aload (i := 7) o dX3_loads_87 rfl) ?_
            refine zQ.s (fun h => zs_bipush (v := 11) o dX3_loads_89 (by decide)) ?_
            obtain ⟨g7, hm⟩ := gd_e hm
            refine zm_rald o h_r4 dX3_loads_91 g7 ?_
            refine zQ.s (fun h => zs_bipush (v := 101) o dX3_loads_92 (by decide)) ?_
            refine zQ.b (fun h => zs_icmp_ne (tgt := 101) o dX3_loads_94 (by decide)) (fun c => ?_) (fun c => ?_)
            · have hm := if_e2 hm c
              refine zQ.fg (zl_s (zl_s (zl_s (zl_s (zl_s (zl_n (zl_s (zl_s zl_0)))))))) ?_
              exact hj101 _ _ _ _ _ _ _ _ _ (by omega) (by omega) h_x2 h_r4 hm
            · have hm := if_e1 hm c
              refine zQ.s (fun h => zs_iconst (v := 1) o dX3_loads_97 (by decide)) ?_
              refine zQ.s (fun h => zs_goto (tgt := 102) o dX3_loads_98 (by decide)) ?_
              refine zQ.fg (zl_s (zl_s (zl_s (zl_s (zl_s (zl_n (zl_s (zl_s zl_0)))))))) ?_
              exact hj102 _ _ _ _ _ _ _ _ _ _ (by omega) (by omega) h_x2 h_r4 hm
  unfold m_loads at hm
  refine zQ.s (fun h => zs_aload_n (i := 0) o dX3_loads_0 rfl rfl) ?_
  refine zm_getR o fl_X3_74_3 rfl dX3_loads_1 ?_
  refine zQ.s (fun h => zs_iload_n (i := 1) o dX3_loads_4 rfl rfl) ?_
  obtain ⟨g1, hm⟩ := gd_e hm
  obtain ⟨r2, e_r2, hm⟩ := lt_e hm
  refine zm_row o dX3_loads_5 g1 e_r2 (fun h_r2 => ?_)
  refine zQ.s (fun h => zs_astore_n (i := 2) o dX3_loads_6 rfl (by decide) (Or.inr rfl) (by simp only [List.set_cons_succ, List.set_cons_zero]; rfl)) ?_
  refine zQ.s (fun h => zs_aload_n (i := 0) o dX3_loads_7 rfl rfl) ?_
  refine zm_getR o fl_X3_62_3 rfl dX3_loads_8 ?_
  refine zQ.s (fun h => zs_aload_n (i := 2) o dX3_loads_11 rfl rfl) ?_
  refine zQ.s (fun h => zs_bipush (v := 7) o dX3_loads_12 (by decide)) ?_
  obtain ⟨g3, hm⟩ := gd_e hm
  refine zm_rald o h_r2 dX3_loads_14 g3 ?_
  obtain ⟨g4, hm⟩ := gd_e hm
  refine zm_iald o rfl dX3_loads_15 g4 ?_
  refine zQ.s (fun h => zs_aload_n (i := 0) o dX3_loads_16 rfl rfl) ?_
  refine zm_getR o fl_X3_22_3 rfl dX3_loads_17 ?_
  refine zQ.s (fun h => zs_aload_n (i := 2) o dX3_loads_20 rfl rfl) ?_
  refine zQ.s (fun h => zs_iconst (v := 0) o dX3_loads_21 (by decide)) ?_
  obtain ⟨g5, hm⟩ := gd_e hm
  refine zm_rald o h_r2 dX3_loads_22 g5 ?_
  obtain ⟨g6, hm⟩ := gd_e hm
  refine zm_iald o rfl dX3_loads_23 g6 ?_
  refine zQ.s (fun h => zs_iadd o dX3_loads_24) ?_
  obtain ⟨v7, e_v7, hm⟩ := lt_e hm
  refine zQ.nmi e_v7 ?_
  refine zQ.s (fun h => zs_istore_n (i := 3) o dX3_loads_25 rfl (by decide) (Or.inr (zc2_ref rfl)) (by simp only [List.set_cons_succ, List.set_cons_zero]; rfl)) ?_
  refine zQ.s (fun h => zs_iload_n (i := 3) o dX3_loads_26 rfl rfl) ?_
  obtain ⟨y8, c_y8, hm⟩ := bd_e hm
  refine zQ_Si o ml_X3_225 (M_isAddress G _ _ c_y8) dX3_loads_27 rfl rfl rfl rfl (by omega) (by omega) ?_
  refine zQ.b (fun h => zs_if_ne (tgt := 46) o dX3_loads_30 (by decide)) (fun c => ?_) (fun c => ?_)
  · have hm := if_e2 hm c
    refine zQ.s (fun h => zs_iconst (v := -1) o dX3_loads_46 (by decide)) ?_
    refine zQ.s (fun h => zs_istore (i := 4) o dX3_loads_47 (by decide) (Or.inr rfl) (by simp only [List.set_cons_succ, List.set_cons_zero]; rfl)) ?_
    refine zQ.s (fun h => zs_iconst (v := 1) o dX3_loads_49 (by decide)) ?_
    refine zQ.s (fun h => zs_istore (i := 5) o dX3_loads_50 (by decide) (Or.inr rfl) (by simp only [List.set_cons_succ, List.set_cons_zero]; rfl)) ?_
    refine zQ.s (fun h => zs_iconst (v := 0) o dX3_loads_52 (by decide)) ?_
    refine zQ.s (fun h => zs_istore (i := 6) o dX3_loads_53 (by decide) (Or.inr rfl) (by simp only [List.set_cons_succ, List.set_cons_zero]; rfl)) ?_
    exact hl55 100 (Nat.le_refl _) _ _ _ _ _ _ _ _ _ (by omega) (by omega) h_r2 hm
  · have hm := if_e1 hm c
    refine zQ.s (fun h => zs_aload_n (i := 2) o dX3_loads_33 rfl rfl) ?_
    refine zQ.s (fun h => zs_bipush (v := 13) o dX3_loads_34 (by decide)) ?_
    refine zQ.s (fun h => zs_iconst (v := 2) o dX3_loads_36 (by decide)) ?_
    obtain ⟨g9, hm⟩ := gd_e hm
    obtain ⟨S10, e_S10, hm⟩ := lt_e hm
    refine zm_rast o h_r2 dX3_loads_37 g9 e_S10 ?_
    refine zQ.s (fun h => zs_aload_n (i := 0) o dX3_loads_38 rfl rfl) ?_
    refine zQ.s (fun h => zs_aload_n (i := 2) o dX3_loads_39 rfl rfl) ?_
    refine zQ.s (fun h => zs_iconst (v := 1) o dX3_loads_40 (by decide)) ?_
    obtain ⟨y11, c_y11, hm⟩ := bd_e hm
    refine zm_Vv o ml_X3_228 (M_starts G p g _ _ _ _ _ h_r2 _ c_y11) dX3_loads_41 rfl rfl rfl rfl (by omega) (by omega) ?_
    refine zQ.s (fun h => zs_iconst (v := 1) o dX3_loads_44 (by decide)) ?_
    refine zm_reti o f dX3_loads_45 rfl (by omega) (by omega) ((so_e hm).trans hR9.symm)

def m_begins_j143 (k9 : MS → Int32 → Int32 → Int32 → Int32 → Option MS) (k94 : MS → Int32 → Int32 → Int32 → Int32 → Nat → Int32 → Int32 → Option MS) (S : MS) (x1 : Int32) (x2 : Int32) (x3 : Int32) (x4 : Int32) (x5 : Nat) (x8 : Int32) (s0 : Int32) : Option MS :=
  k94 S x1 x2 x3 x4 x5 s0 (x8 + (1 : Int32))
def m_begins_j138 (k9 : MS → Int32 → Int32 → Int32 → Int32 → Option MS) (k94 : MS → Int32 → Int32 → Int32 → Int32 → Nat → Int32 → Int32 → Option MS) (S : MS) (x1 : Int32) (x2 : Int32) (x3 : Int32) (x4 : Int32) (x5 : Nat) (x8 : Int32) : Option MS :=
  m_begins_j143 k9 k94 S x1 x2 x3 x4 x5 x8 (1 : Int32)
def m_begins_j142 (k9 : MS → Int32 → Int32 → Int32 → Int32 → Option MS) (k94 : MS → Int32 → Int32 → Int32 → Int32 → Nat → Int32 → Int32 → Option MS) (S : MS) (x1 : Int32) (x2 : Int32) (x3 : Int32) (x4 : Int32) (x5 : Nat) (x8 : Int32) : Option MS :=
  m_begins_j143 k9 k94 S x1 x2 x3 x4 x5 x8 (0 : Int32)
def m_begins_j242 (k9 : MS → Int32 → Int32 → Int32 → Int32 → Option MS) (S : MS) (x1 : Int32) (x2 : Int32) (x3 : Int32) (x4 : Int32) : Option MS :=
  k9 S x1 x2 x3 (x4 + (1 : Int32))
def m_begins_j164 (k9 : MS → Int32 → Int32 → Int32 → Int32 → Option MS) (S : MS) (x1 : Int32) (x2 : Int32) (x3 : Int32) (x4 : Int32) : Option MS :=
  m_begins_j242 k9 S x1 x2 x3 x4
def m_begins_b94 (k9 : MS → Int32 → Int32 → Int32 → Int32 → Option MS) (k94 : MS → Int32 → Int32 → Int32 → Int32 → Nat → Int32 → Int32 → Option MS) (S : MS) (x1 : Int32) (x2 : Int32) (x3 : Int32) (x4 : Int32) (x5 : Nat) (x7 : Int32) (x8 : Int32) : Option MS :=
  if (mS S 23) ≤ x8 then
    if x7 = (0 : Int32) then
      bd (m_starts S x5 (6 : Int32)) fun y1 =>
      m_begins_j164 k9 y1 x1 x2 x3 x4
    else
      m_begins_j164 k9 S x1 x2 x3 x4
  else
    if x7 = (0 : Int32) then
      gd (inb x8 16) <|
      lt (mM S (ix x8)) fun r3 =>
      bd (m_codeOf S r3) fun y4 =>
      if y4.2 = (5 : Int32) then
        gd (inb x8 16) <|
        lt (mM y4.1 (ix x8)) fun r6 =>
        gd (inb (11 : Int32) 28) <|
        if (mB y4.1 r6 (ix (11 : Int32))) = (120 : Int32) then
          m_begins_j138 k9 k94 y4.1 x1 x2 x3 x4 x5 x8
        else
          m_begins_j142 k9 k94 y4.1 x1 x2 x3 x4 x5 x8
      else
        m_begins_j142 k9 k94 y4.1 x1 x2 x3 x4 x5 x8
    else
      m_begins_j138 k9 k94 S x1 x2 x3 x4 x5 x8
def m_begins_l94 (k9 : MS → Int32 → Int32 → Int32 → Int32 → Option MS) : Nat → MS → Int32 → Int32 → Int32 → Int32 → Nat → Int32 → Int32 → Option MS
  | 0 => fun _ _ _ _ _ _ _ _ => none
  | n + 1 => m_begins_b94 k9 (m_begins_l94 k9 n)
def m_begins_j205 (k9 : MS → Int32 → Int32 → Int32 → Int32 → Option MS) (S : MS) (x1 : Int32) (x2 : Int32) (x4 : Int32) (s1 : Int32) (s0 : Int32) : Option MS :=
  lt (s0 + s1) fun v1 =>
  m_begins_j242 k9 S x1 x2 v1 x4
def m_begins_j210 (k9 : MS → Int32 → Int32 → Int32 → Int32 → Option MS) (S : MS) (x1 : Int32) (x2 : Int32) (x3 : Int32) (x4 : Int32) (x5 : Nat) : Option MS :=
  if x3 = (0 : Int32) then
    bd (m_starts S x5 (1 : Int32)) fun y1 =>
    m_begins_j242 k9 y1 x1 x2 (x3 + (1 : Int32)) x4
  else
    m_begins_j242 k9 S x1 x2 x3 x4
def m_begins_b9 (k9 : MS → Int32 → Int32 → Int32 → Int32 → Option MS) (S : MS) (x1 : Int32) (x2 : Int32) (x3 : Int32) (x4 : Int32) : Option MS :=
  if (mS S 23) ≤ x4 then
    some S
  else
    gd (inb x4 16) <|
    lt (mM S (ix x4)) fun r2 =>
    bd (m_codeOf S r2) fun y3 =>
    gd (inb (11 : Int32) 28) <|
    if (mB y3.1 r2 (ix (11 : Int32))) = (113 : Int32) then
      bd (m_hasOperands y3.1 r2 y3.2) fun y5 =>
      if y5.2 = (0 : Int32) then
        m_begins_j242 k9 y5.1 x1 x2 x3 x4
      else
        if y3.2 = (4 : Int32) then
          if x2 = (0 : Int32) then
            bd (m_starts y5.1 r2 (3 : Int32)) fun y9 =>
            m_begins_j242 k9 y9 x1 (x2 + (1 : Int32)) x3 x4
          else
            m_begins_j242 k9 y5.1 x1 x2 x3 x4
        else
          if y3.2 = (5 : Int32) then
            m_begins_l94 k9 100 y5.1 x1 x2 x3 x4 r2 (0 : Int32) (0 : Int32)
          else
            bd (m_in y3.2 (9 : Int32) (11 : Int32)) fun y6 =>
            if y6 = (0 : Int32) then
              if (2 : Int32) ≤ x1 then
                m_begins_j242 k9 y5.1 x1 x2 x3 x4
              else
                bd (m_starts y5.1 r2 (1 : Int32)) fun y7 =>
                m_begins_j242 k9 y7 (x1 + (1 : Int32)) x2 x3 x4
            else
              if x3 = (0 : Int32) then
                if y3.2 = (9 : Int32) then
                  bd (m_loads y5.1 x4) fun y8 =>
                  if y8.2 = (0 : Int32) then
                    m_begins_j205 k9 y8.1 x1 x2 x4 (0 : Int32) x3
                  else
                    m_begins_j205 k9 y8.1 x1 x2 x4 (1 : Int32) x3
                else
                  m_begins_j210 k9 y5.1 x1 x2 x3 x4 r2
              else
                m_begins_j210 k9 y5.1 x1 x2 x3 x4 r2
    else
      m_begins_j242 k9 y3.1 x1 x2 x3 x4
def m_begins_l9 : Nat → MS → Int32 → Int32 → Int32 → Int32 → Option MS
  | 0 => fun _ _ _ _ _ => none
  | n + 1 => m_begins_b9 (m_begins_l9 n)
def m_begins (S : MS) : Option MS :=
  m_begins_l9 100 S (0 : Int32) (0 : Int32) (0 : Int32) (0 : Int32)

set_option maxHeartbeats 40000000 in
theorem M_begins (G : zG) (p : Nat) (g : MG) (q n : Nat) (S : MS) (S9 : MS) (hm : m_begins S = some S9) : zMv G yX3_begins cX3_begins 9 none 3 0 0 p g q n [] S S9 := by
  intro h0 h hI0
  refine zCo.st [some (zrf p), none, none, none, none, none, none, none, none] rfl rfl (by simp only [zarg_r, zarg_i, zarg_l, zarg_0]; rfl) (fun X o f0 hin hw0 => ?_)
  have f := f0.e
  refine (?_ : zQ (IM h0 p g q n S) G X 0 0 0 [some (zrf p), none, none, none, none, none, none, none, none] []) h hI0 hw0
  clear hI0 hw0
  generalize hR9 : (S9 : MS) = R at hm
  have hl9 : ∀ (n9 : Nat), n9 ≤ 100 → ∀ (S : MS) (x1 : Int32) (x2 : Int32) (x3 : Int32) (x4 : Int32) (cl sl : Nat), cl + (0) ≤ 0 → sl + (0) ≤ 0 → m_begins_l9 n9 S x1 x2 x3 x4 = some R → zQ (IM h0 p g q n S) G X cl sl 9 [some (zrf p), some (.int x1), some (.int x2), some (.int x3), some (.int x4), none, none, none, none] [] := by
    intro n9
    induction n9 with
    | zero => intro _ S x1 x2 x3 x4 cl sl _ _ hm; exact no_e hm
    | succ n9 ih =>
      intro hf9
      have ih9 := ih (by omega)
      have hj242 : ∀ (S : MS) (x1 : Int32) (x2 : Int32) (x3 : Int32) (x4 : Int32) (cl sl : Nat), cl + (0) ≤ 0 → sl + (0) ≤ 0 → m_begins_j242 (m_begins_l9 n9) S x1 x2 x3 x4 = some R → zQ (IM h0 p g q n S) G X cl sl 242 [some (zrf p), some (.int x1), some (.int x2), some (.int x3), some (.int x4), none, none, none, none] [] := by
        intro S x1 x2 x3 x4 cl sl hc hs hm
        unfold m_begins_j242 at hm
        refine zQ.s (fun h => zs_iinc (i := 4) (v := x4 + (1 : Int32)) o dX3_begins_242 rfl rfl (by decide) (Or.inr rfl) (by simp only [List.set_cons_succ, List.set_cons_zero]; rfl)) ?_
        refine zQ.s (fun h => zs_goto (tgt := 9) o dX3_begins_245 (by decide)) ?_
        exact ih9 _ _ _ _ _ _ _ (by omega) (by omega) hm
      have hj210 : ∀ (S : MS) (x1 : Int32) (x2 : Int32) (x3 : Int32) (x4 : Int32) (x5 : Nat) (cl sl : Nat), cl + (0) ≤ 0 → sl + (0) ≤ 0 → x5 < 16 → m_begins_j210 (m_begins_l9 n9) S x1 x2 x3 x4 x5 = some R → zQ (IM h0 p g q n S) G X cl sl 210 [some (zrf p), some (.int x1), some (.int x2), some (.int x3), some (.int x4), some (zrf (g.2.1 x5)), none, none, none] [] := by
        intro S x1 x2 x3 x4 x5 cl sl hc hs h_x5 hm
        unfold m_begins_j210 at hm
        refine zQ.s (fun h => zs_iload_n (i := 3) o dX3_begins_210 rfl rfl) ?_
        refine zQ.b (fun h => zs_if_ne (tgt := 242) o dX3_begins_211 (by decide)) (fun c => ?_) (fun c => ?_)
        · have hm := if_e2 hm c
          refine zQ.fg (zl_s (zl_s (zl_s (zl_s (zl_s (zl_n (zl_n (zl_n (zl_n zl_0))))))))) ?_
          exact hj242 _ _ _ _ _ _ _ (by omega) (by omega) hm
        · have hm := if_e1 hm c
          refine zQ.s (fun h => zs_iinc (i := 3) (v := x3 + (1 : Int32)) o dX3_begins_214 rfl rfl (by decide) (Or.inr rfl) (by simp only [List.set_cons_succ, List.set_cons_zero]; rfl)) ?_
          refine zQ.s (fun h => zs_aload_n (i := 0) o dX3_begins_217 rfl rfl) ?_
          refine zQ.s (fun h => zs_aload (i := 5) o dX3_begins_218 rfl) ?_
          refine zQ.s (fun h => zs_iconst (v := 1) o dX3_begins_220 (by decide)) ?_
          obtain ⟨y1, c_y1, hm⟩ := bd_e hm
          refine zm_Vv o ml_X3_228 (M_starts G p g _ _ _ _ _ h_x5 _ c_y1) dX3_begins_221 rfl rfl rfl rfl (by omega) (by omega) ?_
          refine zQ.s (fun h => zs_goto (tgt := 242) o dX3_begins_224 (by decide)) ?_
          refine zQ.fg (zl_s (zl_s (zl_s (zl_s (zl_s (zl_n (zl_n (zl_n (zl_n zl_0))))))))) ?_
          exact hj242 _ _ _ _ _ _ _ (by omega) (by omega) hm
      have hj205 : ∀ (S : MS) (x1 : Int32) (x2 : Int32) (x4 : Int32) (s1 : Int32) (s0 : Int32) (cl sl : Nat), cl + (0) ≤ 0 → sl + (0) ≤ 0 → m_begins_j205 (m_begins_l9 n9) S x1 x2 x4 s1 s0 = some R → zQ (IM h0 p g q n S) G X cl sl 205 [some (zrf p), some (.int x1), some (.int x2), none, some (.int x4), none, none, none, none] [.int s1, .int s0] := by
        intro S x1 x2 x4 s1 s0 cl sl hc hs hm
        unfold m_begins_j205 at hm
        refine zQ.s (fun h => zs_iadd o dX3_begins_205) ?_
        obtain ⟨v1, e_v1, hm⟩ := lt_e hm
        refine zQ.nmi e_v1 ?_
        refine zQ.s (fun h => zs_istore_n (i := 3) o dX3_begins_206 rfl (by decide) (Or.inr rfl) (by simp only [List.set_cons_succ, List.set_cons_zero]; rfl)) ?_
        refine zQ.s (fun h => zs_goto (tgt := 242) o dX3_begins_207 (by decide)) ?_
        exact hj242 _ _ _ _ _ _ _ (by omega) (by omega) hm
      have hj164 : ∀ (S : MS) (x1 : Int32) (x2 : Int32) (x3 : Int32) (x4 : Int32) (cl sl : Nat), cl + (0) ≤ 0 → sl + (0) ≤ 0 → m_begins_j164 (m_begins_l9 n9) S x1 x2 x3 x4 = some R → zQ (IM h0 p g q n S) G X cl sl 164 [some (zrf p), some (.int x1), some (.int x2), some (.int x3), some (.int x4), none, none, none, none] [] := by
        intro S x1 x2 x3 x4 cl sl hc hs hm
        unfold m_begins_j164 at hm
        refine zQ.s (fun h => zs_goto (tgt := 242) o dX3_begins_164 (by decide)) ?_
        exact hj242 _ _ _ _ _ _ _ (by omega) (by omega) hm
      have hl94 : ∀ (n94 : Nat), n94 ≤ 100 → ∀ (S : MS) (x1 : Int32) (x2 : Int32) (x3 : Int32) (x4 : Int32) (x5 : Nat) (x7 : Int32) (x8 : Int32) (cl sl : Nat), cl + (0) ≤ 0 → sl + (0) ≤ 0 → x5 < 16 → m_begins_l94 (m_begins_l9 n9) n94 S x1 x2 x3 x4 x5 x7 x8 = some R → zQ (IM h0 p g q n S) G X cl sl 94 [some (zrf p), some (.int x1), some (.int x2), some (.int x3), some (.int x4), some (zrf (g.2.1 x5)), none, some (.int x7), some (.int x8)] [] := by
        intro n94
        induction n94 with
        | zero => intro _ S x1 x2 x3 x4 x5 x7 x8 cl sl _ _ h_x5 hm; exact no_e hm
        | succ n94 ih =>
          intro hf94
          have ih94 := ih (by omega)
          have hj143 : ∀ (S : MS) (x1 : Int32) (x2 : Int32) (x3 : Int32) (x4 : Int32) (x5 : Nat) (x8 : Int32) (s0 : Int32) (cl sl : Nat), cl + (0) ≤ 0 → sl + (0) ≤ 0 → x5 < 16 → m_begins_j143 (m_begins_l9 n9) (m_begins_l94 (m_begins_l9 n9) n94) S x1 x2 x3 x4 x5 x8 s0 = some R → zQ (IM h0 p g q n S) G X cl sl 143 [some (zrf p), some (.int x1), some (.int x2), some (.int x3), some (.int x4), some (zrf (g.2.1 x5)), none, none, some (.int x8)] [.int s0] := by
            intro S x1 x2 x3 x4 x5 x8 s0 cl sl hc hs h_x5 hm
            unfold m_begins_j143 at hm
            refine zQ.s (fun h => zs_istore (i := 7) o dX3_begins_143 (by decide) (Or.inr rfl) (by simp only [List.set_cons_succ, List.set_cons_zero]; rfl)) ?_
            refine zQ.s (fun h => zs_iinc (i := 8) (v := x8 + (1 : Int32)) o dX3_begins_145 rfl rfl (by decide) (Or.inr rfl) (by simp only [List.set_cons_succ, List.set_cons_zero]; rfl)) ?_
            refine zQ.s (fun h => zs_goto (tgt := 94) o dX3_begins_148 (by decide)) ?_
            exact ih94 _ _ _ _ _ _ _ _ _ _ (by omega) (by omega) h_x5 hm
          have hj138 : ∀ (S : MS) (x1 : Int32) (x2 : Int32) (x3 : Int32) (x4 : Int32) (x5 : Nat) (x8 : Int32) (cl sl : Nat), cl + (0) ≤ 0 → sl + (0) ≤ 0 → x5 < 16 → m_begins_j138 (m_begins_l9 n9) (m_begins_l94 (m_begins_l9 n9) n94) S x1 x2 x3 x4 x5 x8 = some R → zQ (IM h0 p g q n S) G X cl sl 138 [some (zrf p), some (.int x1), some (.int x2), some (.int x3), some (.int x4), some (zrf (g.2.1 x5)), none, none, some (.int x8)] [] := by
            intro S x1 x2 x3 x4 x5 x8 cl sl hc hs h_x5 hm
            unfold m_begins_j138 at hm
            refine zQ.s (fun h => zs_iconst (v := 1) o dX3_begins_138 (by decide)) ?_
            refine zQ.s (fun h => zs_goto (tgt := 143) o dX3_begins_139 (by decide)) ?_
            exact hj143 _ _ _ _ _ _ _ _ _ _ (by omega) (by omega) h_x5 hm
          have hj142 : ∀ (S : MS) (x1 : Int32) (x2 : Int32) (x3 : Int32) (x4 : Int32) (x5 : Nat) (x8 : Int32) (cl sl : Nat), cl + (0) ≤ 0 → sl + (0) ≤ 0 → x5 < 16 → m_begins_j142 (m_begins_l9 n9) (m_begins_l94 (m_begins_l9 n9) n94) S x1 x2 x3 x4 x5 x8 = some R → zQ (IM h0 p g q n S) G X cl sl 142 [some (zrf p), some (.int x1), some (.int x2), some (.int x3), some (.int x4), some (zrf (g.2.1 x5)), none, none, some (.int x8)] [] := by
            intro S x1 x2 x3 x4 x5 x8 cl sl hc hs h_x5 hm
            unfold m_begins_j142 at hm
            refine zQ.s (fun h => zs_iconst (v := 0) o dX3_begins_142 (by decide)) ?_
            exact hj143 _ _ _ _ _ _ _ _ _ _ (by omega) (by omega) h_x5 hm
          intro S x1 x2 x3 x4 x5 x7 x8 cl sl hc hs h_x5 hm
          have hm : m_begins_b94 (m_begins_l9 n9) (m_begins_l94 (m_begins_l9 n9) n94) S x1 x2 x3 x4 x5 x7 x8 = some R := hm
          unfold m_begins_b94 at hm
          refine zQ.s (fun h => zs_iload (i := 8) o dX3_begins_94 rfl) ?_
          refine zQ.s (fun h => zs_aload_n (i := 0) o dX3_begins_96 rfl rfl) ?_
          refine zm_getI o fl_X3_198_3 rfl dX3_begins_97 ?_
          refine zQ.b (fun h => zs_icmp_ge (tgt := 151) o dX3_begins_100 (by decide)) (fun c => ?_) (fun c => ?_)
          · have hm := if_e1 hm c
            refine zQ.s (fun h => zs_iload (i := 7) o dX3_begins_151 rfl) ?_
            refine zQ.b (fun h => zs_if_ne (tgt := 164) o dX3_begins_153 (by decide)) (fun c => ?_) (fun c => ?_)
            · have hm := if_e2 hm c
              refine zQ.fg (zl_s (zl_s (zl_s (zl_s (zl_s (zl_n (zl_n (zl_n (zl_n zl_0))))))))) ?_
              exact hj164 _ _ _ _ _ _ _ (by omega) (by omega) hm
            · have hm := if_e1 hm c
              refine zQ.s (fun h => zs_aload_n (i := 0) o dX3_begins_156 rfl rfl) ?_
              refine zQ.s (fun h => zs_aload (i := 5) o dX3_begins_157 rfl) ?_
              refine zQ.s (fun h => zs_bipush (v := 6) o dX3_begins_159 (by decide)) ?_
              obtain ⟨y1, c_y1, hm⟩ := bd_e hm
              refine zm_Vv o ml_X3_228 (M_starts G p g _ _ _ _ _ h_x5 _ c_y1) dX3_begins_161 rfl rfl rfl rfl (by omega) (by omega) ?_
              refine zQ.fg (zl_s (zl_s (zl_s (zl_s (zl_s (zl_n (zl_n (zl_n (zl_n zl_0))))))))) ?_
              exact hj164 _ _ _ _ _ _ _ (by omega) (by omega) hm
          · have hm := if_e2 hm c
            refine zQ.s (fun h => zs_iload (i := 7) o dX3_begins_103 rfl) ?_
            refine zQ.b (fun h => zs_if_ne (tgt := 138) o dX3_begins_105 (by decide)) (fun c => ?_) (fun c => ?_)
            · have hm := if_e2 hm c
              refine zQ.fg (zl_s (zl_s (zl_s (zl_s (zl_s (zl_s (zl_n (zl_n (zl_s zl_0))))))))) ?_
              exact hj138 _ _ _ _ _ _ _ _ _ (by omega) (by omega) h_x5 hm
            · have hm := if_e1 hm c
              refine zQ.s (fun h => zs_aload_n (i := 0) o dX3_begins_108 rfl rfl) ?_
              refine zQ.s (fun h => zs_aload_n (i := 0) o dX3_begins_109 rfl rfl) ?_
              refine zm_getR o fl_X3_74_3 rfl dX3_begins_110 ?_
              refine zQ.s (fun h => zs_iload (i := 8) o dX3_begins_113 rfl) ?_
              obtain ⟨g2, hm⟩ := gd_e hm
              obtain ⟨r3, e_r3, hm⟩ := lt_e hm
              refine zm_row o dX3_begins_115 g2 e_r3 (fun h_r3 => ?_)
              obtain ⟨y4, c_y4, hm⟩ := bd_e hm
              refine zm_Vi o ml_X3_201 (M_codeOf G p g _ _ _ _ h_r3 _ _ c_y4) dX3_begins_116 rfl rfl rfl rfl (by omega) (by omega) ?_
              refine zQ.s (fun h => zs_iconst (v := 5) o dX3_begins_119 (by decide)) ?_
              refine zQ.b (fun h => zs_icmp_ne (tgt := 142) o dX3_begins_120 (by decide)) (fun c => ?_) (fun c => ?_)
              · have hm := if_e2 hm c
                refine zQ.fg (zl_s (zl_s (zl_s (zl_s (zl_s (zl_s (zl_n (zl_n (zl_s zl_0))))))))) ?_
                exact hj142 _ _ _ _ _ _ _ _ _ (by omega) (by omega) h_x5 hm
              · have hm := if_e1 hm c
                refine zQ.s (fun h => zs_aload_n (i := 0) o dX3_begins_123 rfl rfl) ?_
                refine zm_getR o fl_X3_74_3 rfl dX3_begins_124 ?_
                refine zQ.s (fun h => zs_iload (i := 8) o dX3_begins_127 rfl) ?_
                obtain ⟨g5, hm⟩ := gd_e hm
                obtain ⟨r6, e_r6, hm⟩ := lt_e hm
                refine zm_row o dX3_begins_129 g5 e_r6 (fun h_r6 => ?_)
                refine zQ.s (fun h => zs_bipush (v := 11) o dX3_begins_130 (by decide)) ?_
                obtain ⟨g7, hm⟩ := gd_e hm
                refine zm_rald o h_r6 dX3_begins_132 g7 ?_
                refine zQ.s (fun h => zs_bipush (v := 120) o dX3_begins_133 (by decide)) ?_
                refine zQ.b (fun h => zs_icmp_ne (tgt := 142) o dX3_begins_135 (by decide)) (fun c => ?_) (fun c => ?_)
                · have hm := if_e2 hm c
                  refine zQ.fg (zl_s (zl_s (zl_s (zl_s (zl_s (zl_s (zl_n (zl_n (zl_s zl_0))))))))) ?_
                  exact hj142 _ _ _ _ _ _ _ _ _ (by omega) (by omega) h_x5 hm
                · have hm := if_e1 hm c
                  refine zQ.fg (zl_s (zl_s (zl_s (zl_s (zl_s (zl_s (zl_n (zl_n (zl_s zl_0))))))))) ?_
                  exact hj138 _ _ _ _ _ _ _ _ _ (by omega) (by omega) h_x5 hm
      intro S x1 x2 x3 x4 cl sl hc hs hm
      have hm : m_begins_b9 (m_begins_l9 n9) S x1 x2 x3 x4 = some R := hm
      unfold m_begins_b9 at hm
      refine zQ.s (fun h => zs_iload (i := 4) o dX3_begins_9 rfl) ?_
      refine zQ.s (fun h => zs_aload_n (i := 0) o dX3_begins_11 rfl rfl) ?_
      refine zm_getI o fl_X3_198_3 rfl dX3_begins_12 ?_
      refine zQ.b (fun h => zs_icmp_ge (tgt := 248) o dX3_begins_15 (by decide)) (fun c => ?_) (fun c => ?_)
      · have hm := if_e1 hm c
        refine zm_retv o f dX3_begins_248 (by omega) (by omega) ((so_e hm).trans hR9.symm)
      · have hm := if_e2 hm c
        refine zQ.s (fun h => zs_aload_n (i := 0) o dX3_begins_18 rfl rfl) ?_
        refine zm_getR o fl_X3_74_3 rfl dX3_begins_19 ?_
        refine zQ.s (fun h => zs_iload (i := 4) o dX3_begins_22 rfl) ?_
        obtain ⟨g1, hm⟩ := gd_e hm
        obtain ⟨r2, e_r2, hm⟩ := lt_e hm
        refine zm_row o dX3_begins_24 g1 e_r2 (fun h_r2 => ?_)
        refine zQ.s (fun h => zs_astore (i := 5) o dX3_begins_25 (by decide) (Or.inr rfl) (by simp only [List.set_cons_succ, List.set_cons_zero]; rfl)) ?_
        refine zQ.s (fun h => zs_aload_n (i := 0) o dX3_begins_27 rfl rfl) ?_
        refine zQ.s (fun h => zs_aload (i := 5) o dX3_begins_28 rfl) ?_
        obtain ⟨y3, c_y3, hm⟩ := bd_e hm
        refine zm_Vi o ml_X3_201 (M_codeOf G p g _ _ _ _ h_r2 _ _ c_y3) dX3_begins_30 rfl rfl rfl rfl (by omega) (by omega) ?_
        refine zQ.s (fun h => zs_istore (i := 6) o dX3_begins_33 (by decide) (Or.inr (zc2_ref rfl)) (by simp only [List.set_cons_succ, List.set_cons_zero]; rfl)) ?_
        refine zQ.s (fun h => zs_aload (i := 5) o dX3_begins_35 rfl) ?_
        refine zQ.s (fun h => zs_bipush (v := 11) o dX3_begins_37 (by decide)) ?_
        obtain ⟨g4, hm⟩ := gd_e hm
        refine zm_rald o h_r2 dX3_begins_39 g4 ?_
        refine zQ.s (fun h => zs_bipush (v := 113) o dX3_begins_40 (by decide)) ?_
        refine zQ.b (fun h => zs_icmp_ne (tgt := 242) o dX3_begins_42 (by decide)) (fun c => ?_) (fun c => ?_)
        · have hm := if_e2 hm c
          refine zQ.fg (zl_s (zl_s (zl_s (zl_s (zl_s (zl_n (zl_n (zl_n (zl_n zl_0))))))))) ?_
          exact hj242 _ _ _ _ _ _ _ (by omega) (by omega) hm
        · have hm := if_e1 hm c
          refine zQ.s (fun h => zs_aload_n (i := 0) o dX3_begins_45 rfl rfl) ?_
          refine zQ.s (fun h => zs_aload (i := 5) o dX3_begins_46 rfl) ?_
          refine zQ.s (fun h => zs_iload (i := 6) o dX3_begins_48 rfl) ?_
          obtain ⟨y5, c_y5, hm⟩ := bd_e hm
          refine zm_Vi o ml_X3_246 (M_hasOperands G p g _ _ _ _ _ h_r2 _ _ c_y5) dX3_begins_50 rfl rfl rfl rfl (by omega) (by omega) ?_
          refine zQ.b (fun h => zs_if_ne (tgt := 59) o dX3_begins_53 (by decide)) (fun c => ?_) (fun c => ?_)
          · have hm := if_e2 hm c
            refine zQ.s (fun h => zs_iload (i := 6) o dX3_begins_59 rfl) ?_
            refine zQ.s (fun h => zs_iconst (v := 4) o dX3_begins_61 (by decide)) ?_
            refine zQ.b (fun h => zs_icmp_ne (tgt := 82) o dX3_begins_62 (by decide)) (fun c => ?_) (fun c => ?_)
            · have hm := if_e2 hm c
              refine zQ.s (fun h => zs_iload (i := 6) o dX3_begins_82 rfl) ?_
              refine zQ.s (fun h => zs_iconst (v := 5) o dX3_begins_84 (by decide)) ?_
              refine zQ.b (fun h => zs_icmp_ne (tgt := 167) o dX3_begins_85 (by decide)) (fun c => ?_) (fun c => ?_)
              · have hm := if_e2 hm c
                refine zQ.s (fun h => zs_iload (i := 6) o dX3_begins_167 rfl) ?_
                refine zQ.s (fun h => zs_bipush (v := 9) o dX3_begins_169 (by decide)) ?_
                refine zQ.s (fun h => zs_bipush (v := 11) o dX3_begins_171 (by decide)) ?_
                obtain ⟨y6, c_y6, hm⟩ := bd_e hm
                refine zQ_Si o ml_X3_129 (M_in G _ _ _ _ c_y6) dX3_begins_173 rfl rfl rfl rfl (by omega) (by omega) ?_
                refine zQ.b (fun h => zs_if_eq (tgt := 227) o dX3_begins_176 (by decide)) (fun c => ?_) (fun c => ?_)
                · have hm := if_e1 hm c
                  refine zQ.s (fun h => zs_iload_n (i := 1) o dX3_begins_227 rfl rfl) ?_
                  refine zQ.s (fun h => zs_iconst (v := 2) o dX3_begins_228 (by decide)) ?_
                  refine zQ.b (fun h => zs_icmp_ge (tgt := 242) o dX3_begins_229 (by decide)) (fun c => ?_) (fun c => ?_)
                  · have hm := if_e1 hm c
                    refine zQ.fg (zl_s (zl_s (zl_s (zl_s (zl_s (zl_n (zl_n (zl_n (zl_n zl_0))))))))) ?_
                    exact hj242 _ _ _ _ _ _ _ (by omega) (by omega) hm
                  · have hm := if_e2 hm c
                    refine zQ.s (fun h => zs_iinc (i := 1) (v := x1 + (1 : Int32)) o dX3_begins_232 rfl rfl (by decide) (Or.inr (zc2_ref rfl)) (by simp only [List.set_cons_succ, List.set_cons_zero]; rfl)) ?_
                    refine zQ.s (fun h => zs_aload_n (i := 0) o dX3_begins_235 rfl rfl) ?_
                    refine zQ.s (fun h => zs_aload (i := 5) o dX3_begins_236 rfl) ?_
                    refine zQ.s (fun h => zs_iconst (v := 1) o dX3_begins_238 (by decide)) ?_
                    obtain ⟨y7, c_y7, hm⟩ := bd_e hm
                    refine zm_Vv o ml_X3_228 (M_starts G p g _ _ _ _ _ h_r2 _ c_y7) dX3_begins_239 rfl rfl rfl rfl (by omega) (by omega) ?_
                    refine zQ.fg (zl_s (zl_s (zl_s (zl_s (zl_s (zl_n (zl_n (zl_n (zl_n zl_0))))))))) ?_
                    exact hj242 _ _ _ _ _ _ _ (by omega) (by omega) hm
                · have hm := if_e2 hm c
                  refine zQ.s (fun h => zs_iload_n (i := 3) o dX3_begins_179 rfl rfl) ?_
                  refine zQ.b (fun h => zs_if_ne (tgt := 210) o dX3_begins_180 (by decide)) (fun c => ?_) (fun c => ?_)
                  · have hm := if_e2 hm c
                    refine zQ.fg (zl_s (zl_s (zl_s (zl_s (zl_s (zl_s (zl_n (zl_n (zl_n zl_0))))))))) ?_
                    exact hj210 _ _ _ _ _ _ _ _ (by omega) (by omega) h_r2 hm
                  · have hm := if_e1 hm c
                    refine zQ.s (fun h => zs_iload (i := 6) o dX3_begins_183 rfl) ?_
                    refine zQ.s (fun h => zs_bipush (v := 9) o dX3_begins_185 (by decide)) ?_
                    refine zQ.b (fun h => zs_icmp_ne (tgt := 210) o dX3_begins_187 (by decide)) (fun c => ?_) (fun c => ?_)
                    · have hm := if_e2 hm c
                      refine zQ.fg (zl_s (zl_s (zl_s (zl_s (zl_s (zl_s (zl_n (zl_n (zl_n zl_0))))))))) ?_
                      exact hj210 _ _ _ _ _ _ _ _ (by omega) (by omega) h_r2 hm
                    · have hm := if_e1 hm c
                      refine zQ.s (fun h => zs_iload_n (i := 3) o dX3_begins_190 rfl rfl) ?_
                      refine zQ.s (fun h => zs_aload_n (i := 0) o dX3_begins_191 rfl rfl) ?_
                      refine zQ.s (fun h => zs_iload (i := 4) o dX3_begins_192 rfl) ?_
                      obtain ⟨y8, c_y8, hm⟩ := bd_e hm
                      refine zm_Vi o ml_X3_250 (M_loads G p g _ _ _ _ _ _ c_y8) dX3_begins_194 rfl rfl rfl rfl (by omega) (by omega) ?_
                      refine zQ.b (fun h => zs_if_eq (tgt := 204) o dX3_begins_197 (by decide)) (fun c => ?_) (fun c => ?_)
                      · have hm := if_e1 hm c
                        refine zQ.s (fun h => zs_iconst (v := 0) o dX3_begins_204 (by decide)) ?_
                        refine zQ.fg (zl_s (zl_s (zl_s (zl_n (zl_s (zl_n (zl_n (zl_n (zl_n zl_0))))))))) ?_
                        exact hj205 _ _ _ _ _ _ _ _ (by omega) (by omega) hm
                      · have hm := if_e2 hm c
                        refine zQ.s (fun h => zs_iconst (v := 1) o dX3_begins_200 (by decide)) ?_
                        refine zQ.s (fun h => zs_goto (tgt := 205) o dX3_begins_201 (by decide)) ?_
                        refine zQ.fg (zl_s (zl_s (zl_s (zl_n (zl_s (zl_n (zl_n (zl_n (zl_n zl_0))))))))) ?_
                        exact hj205 _ _ _ _ _ _ _ _ (by omega) (by omega) hm
              · have hm := if_e1 hm c
                refine zQ.s (fun h => zs_iconst (v := 0) o dX3_begins_88 (by decide)) ?_
                refine zQ.s (fun h => zs_istore (i := 7) o dX3_begins_89 (by decide) (Or.inr rfl) (by simp only [List.set_cons_succ, List.set_cons_zero]; rfl)) ?_
                refine zQ.s (fun h => zs_iconst (v := 0) o dX3_begins_91 (by decide)) ?_
                refine zQ.s (fun h => zs_istore (i := 8) o dX3_begins_92 (by decide) (Or.inr rfl) (by simp only [List.set_cons_succ, List.set_cons_zero]; rfl)) ?_
                refine zQ.fg (zl_s (zl_s (zl_s (zl_s (zl_s (zl_s (zl_n (zl_s (zl_s zl_0))))))))) ?_
                exact hl94 100 (Nat.le_refl _) _ _ _ _ _ _ _ _ _ _ (by omega) (by omega) h_r2 hm
            · have hm := if_e1 hm c
              refine zQ.s (fun h => zs_iload_n (i := 2) o dX3_begins_65 rfl rfl) ?_
              refine zQ.b (fun h => zs_if_ne (tgt := 242) o dX3_begins_66 (by decide)) (fun c => ?_) (fun c => ?_)
              · have hm := if_e2 hm c
                refine zQ.fg (zl_s (zl_s (zl_s (zl_s (zl_s (zl_n (zl_n (zl_n (zl_n zl_0))))))))) ?_
                exact hj242 _ _ _ _ _ _ _ (by omega) (by omega) hm
              · have hm := if_e1 hm c
                refine zQ.s (fun h => zs_iinc (i := 2) (v := x2 + (1 : Int32)) o dX3_begins_69 rfl rfl (by decide) (Or.inr rfl) (by simp only [List.set_cons_succ, List.set_cons_zero]; rfl)) ?_
                refine zQ.s (fun h => zs_aload_n (i := 0) o dX3_begins_72 rfl rfl) ?_
                refine zQ.s (fun h => zs_aload (i := 5) o dX3_begins_73 rfl) ?_
                refine zQ.s (fun h => zs_iconst (v := 3) o dX3_begins_75 (by decide)) ?_
                obtain ⟨y9, c_y9, hm⟩ := bd_e hm
                refine zm_Vv o ml_X3_228 (M_starts G p g _ _ _ _ _ h_r2 _ c_y9) dX3_begins_76 rfl rfl rfl rfl (by omega) (by omega) ?_
                refine zQ.s (fun h => zs_goto (tgt := 242) o dX3_begins_79 (by decide)) ?_
                refine zQ.fg (zl_s (zl_s (zl_s (zl_s (zl_s (zl_n (zl_n (zl_n (zl_n zl_0))))))))) ?_
                exact hj242 _ _ _ _ _ _ _ (by omega) (by omega) hm
          · have hm := if_e1 hm c
            refine zQ.s (fun h => zs_goto (tgt := 242) o dX3_begins_56 (by decide)) ?_
            refine zQ.fg (zl_s (zl_s (zl_s (zl_s (zl_s (zl_n (zl_n (zl_n (zl_n zl_0))))))))) ?_
            exact hj242 _ _ _ _ _ _ _ (by omega) (by omega) hm
  unfold m_begins at hm
  refine zQ.s (fun h => zs_iconst (v := 0) o dX3_begins_0 (by decide)) ?_
  refine zQ.s (fun h => zs_istore_n (i := 1) o dX3_begins_1 rfl (by decide) (Or.inr (zc2_ref rfl)) (by simp only [List.set_cons_succ, List.set_cons_zero]; rfl)) ?_
  refine zQ.s (fun h => zs_iconst (v := 0) o dX3_begins_2 (by decide)) ?_
  refine zQ.s (fun h => zs_istore_n (i := 2) o dX3_begins_3 rfl (by decide) (Or.inr rfl) (by simp only [List.set_cons_succ, List.set_cons_zero]; rfl)) ?_
  refine zQ.s (fun h => zs_iconst (v := 0) o dX3_begins_4 (by decide)) ?_
  refine zQ.s (fun h => zs_istore_n (i := 3) o dX3_begins_5 rfl (by decide) (Or.inr rfl) (by simp only [List.set_cons_succ, List.set_cons_zero]; rfl)) ?_
  refine zQ.s (fun h => zs_iconst (v := 0) o dX3_begins_6 (by decide)) ?_
  refine zQ.s (fun h => zs_istore (i := 4) o dX3_begins_7 (by decide) (Or.inr rfl) (by simp only [List.set_cons_succ, List.set_cons_zero]; rfl)) ?_
  exact hl9 100 (Nat.le_refl _) _ _ _ _ _ _ _ (by omega) (by omega) hm
