/-! ArrayDeque, ArrayList, BitSet, Integer, text, decompiled over the heap: printed by mk25.py -/
set_option maxRecDepth 100000
def j_J4_init (h : zH) (p : Nat) : Option zH :=
  gd (nzr p) <|
  bd (j_J0_init h p) fun y2 =>
  lt (zT y2 + 1) fun r3 =>
  lt (nw y2 205 (rl y2 p) 17) fun S4 =>
  gd (kd S4 p 12) <|
  gd (wr S4 p) <|
  lt (pR S4 12 0 p r3) fun S7 =>
  some S7

set_option maxHeartbeats 40000000 in
theorem J_J4_init (G : zG) (h : zH) (p : Nat) (h9 : zH) (hm : j_J4_init h p = some h9) : zJv G yJ4_init cJ4_init 1 none 2 1 17 [zrf p] h h9 := by
  refine zCo.st [some (zrf p)] rfl rfl (by simp only [zarg_r, zarg_i, zarg_l, zarg_0]; rfl) (fun X o f0 hin hw0 => ?_)
  have f := f0.e
  have hin : (Xt X).name = "<init>" := hin
  refine (?_ : zQ (EH h) G X 0 0 0 [some (zrf p)] []) h rfl hw0
  clear hw0
  generalize hR9 : (h9 : zH) = R at hm
  unfold j_J4_init at hm
  refine zQ.s (fun h => zs_aload_n (i := 0) o dJ4_init_0 rfl rfl) ?_
  obtain ⟨g1, hm⟩ := gd_e hm
  obtain ⟨y2, c_y2, hm⟩ := bd_e hm
  refine zh_Iv o g1 ml_J4_42 (J_J0_init G _ _ _  c_y2) dJ4_init_1 rfl rfl rfl rfl (by omega) (by omega) ?_
  refine zQ.s (fun h => zs_aload_n (i := 0) o dJ4_init_4 rfl rfl) ?_
  refine zQ.s (fun h => zs_bipush (v := 17) o dJ4_init_5 (by decide)) ?_
  obtain ⟨r3, e_r3, hm⟩ := lt_e hm
  obtain ⟨S4, e_S4, hm⟩ := lt_e hm
  refine zh_newO (N := 17) o q253 (by decide) rfl (by decide) dJ4_init_7 (by omega) (by omega) e_S4 ?_
  refine zQ.nmr e_r3 ?_
  obtain ⟨g5, hm⟩ := gd_e hm
  obtain ⟨g6, hm⟩ := gd_e hm
  obtain ⟨S7, e_S7, hm⟩ := lt_e hm
  refine zh_putR o g5 g6 fl_J4_3_12 rfl rfl dJ4_init_10 e_S7 ?_
  refine zh_retv o f dJ4_init_13 (by omega) (by omega) ((so_e hm).trans hR9.symm)

def j_J4_inc_j10 (h : zH) (x0 : Int32) : Option (zH × Int32) :=
  some (h, x0)
def j_J4_inc (h : zH) (a1 : Int32) (a2 : Int32) : Option (zH × Int32) :=
  if (a1 + (1 : Int32)) < a2 then
    j_J4_inc_j10 h (a1 + (1 : Int32))
  else
    j_J4_inc_j10 h (0 : Int32)

set_option maxHeartbeats 40000000 in
theorem J_J4_inc (G : zG) (h : zH) (a1 : Int32) (a2 : Int32) (V : Int32) (h9 : zH) (hm : j_J4_inc h a1 a2 = some (h9, V)) : zJi G yJ4_inc cJ4_inc 2 (some .int) 0 0 0 [.int a1, .int a2] h V h9 := by
  refine zCo.st [some (.int a1), some (.int a2)] rfl rfl (by simp only [zarg_r, zarg_i, zarg_l, zarg_0]; rfl) (fun X o f0 hin hw0 => ?_)
  have f := f0.e
  have hin : (Xt X).name = "inc" := hin
  refine (?_ : zQ (EH h) G X 0 0 0 [some (.int a1), some (.int a2)] []) h rfl hw0
  clear hw0
  generalize hR9 : ((h9, V) : (zH × Int32)) = R at hm
  have hj10 : ∀ (h : zH) (x0 : Int32) (cl sl : Nat), cl + (0) ≤ 0 → sl + (0) ≤ 0 → j_J4_inc_j10 h x0 = some R → zQ (EH h) G X cl sl 10 [some (.int x0), none] [] := by
    intro h x0 cl sl hc hs hm
    unfold j_J4_inc_j10 at hm
    refine zQ.s (fun h => zs_iload_n (i := 0) o dJ4_inc_10 rfl rfl) ?_
    refine zh_reti o f dJ4_inc_11 rfl (by omega) (by omega) ((so_e hm).trans hR9.symm)
  unfold j_J4_inc at hm
  refine zQ.s (fun h => zs_iinc (i := 0) (v := a1 + (1 : Int32)) o dJ4_inc_0 rfl rfl (by decide) (Or.inl rfl) (by simp only [List.set_cons_succ, List.set_cons_zero]; rfl)) ?_
  refine zQ.s (fun h => zs_iload_n (i := 0) o dJ4_inc_3 rfl rfl) ?_
  refine zQ.s (fun h => zs_iload_n (i := 1) o dJ4_inc_4 rfl rfl) ?_
  refine zQ.b (fun h => zs_icmp_lt (tgt := 10) o dJ4_inc_5 (by decide)) (fun c => ?_) (fun c => ?_)
  · have hm := if_e1 hm c
    refine zQ.fg (zl_s (zl_n zl_0)) ?_
    exact hj10 _ _ _ _ (by omega) (by omega) hm
  · have hm := if_e2 hm c
    refine zQ.s (fun h => zs_iconst (v := 0) o dJ4_inc_8 (by decide)) ?_
    refine zQ.s (fun h => zs_istore_n (i := 0) o dJ4_inc_9 rfl (by decide) (Or.inl rfl) (by simp only [List.set_cons_succ, List.set_cons_zero]; rfl)) ?_
    refine zQ.fg (zl_s (zl_n zl_0)) ?_
    exact hj10 _ _ _ _ (by omega) (by omega) hm

def j_J4_sub_j12 (h : zH) (x0 : Int32) : Option (zH × Int32) :=
  some (h, x0)
def j_J4_sub (h : zH) (a1 : Int32) (a2 : Int32) (a3 : Int32) : Option (zH × Int32) :=
  lt (a1 - a2) fun v1 =>
  if (0 : Int32) ≤ v1 then
    j_J4_sub_j12 h v1
  else
    lt (v1 + a3) fun v2 =>
    j_J4_sub_j12 h v2

set_option maxHeartbeats 40000000 in
theorem J_J4_sub (G : zG) (h : zH) (a1 : Int32) (a2 : Int32) (a3 : Int32) (V : Int32) (h9 : zH) (hm : j_J4_sub h a1 a2 a3 = some (h9, V)) : zJi G yJ4_sub cJ4_sub 3 (some .int) 0 0 0 [.int a1, .int a2, .int a3] h V h9 := by
  refine zCo.st [some (.int a1), some (.int a2), some (.int a3)] rfl rfl (by simp only [zarg_r, zarg_i, zarg_l, zarg_0]; rfl) (fun X o f0 hin hw0 => ?_)
  have f := f0.e
  have hin : (Xt X).name = "sub" := hin
  refine (?_ : zQ (EH h) G X 0 0 0 [some (.int a1), some (.int a2), some (.int a3)] []) h rfl hw0
  clear hw0
  generalize hR9 : ((h9, V) : (zH × Int32)) = R at hm
  have hj12 : ∀ (h : zH) (x0 : Int32) (cl sl : Nat), cl + (0) ≤ 0 → sl + (0) ≤ 0 → j_J4_sub_j12 h x0 = some R → zQ (EH h) G X cl sl 12 [some (.int x0), none, none] [] := by
    intro h x0 cl sl hc hs hm
    unfold j_J4_sub_j12 at hm
    refine zQ.s (fun h => zs_iload_n (i := 0) o dJ4_sub_12 rfl rfl) ?_
    refine zh_reti o f dJ4_sub_13 rfl (by omega) (by omega) ((so_e hm).trans hR9.symm)
  unfold j_J4_sub at hm
  refine zQ.s (fun h => zs_iload_n (i := 0) o dJ4_sub_0 rfl rfl) ?_
  refine zQ.s (fun h => zs_iload_n (i := 1) o dJ4_sub_1 rfl rfl) ?_
  refine zQ.s (fun h => zs_isub o dJ4_sub_2) ?_
  obtain ⟨v1, e_v1, hm⟩ := lt_e hm
  refine zQ.nmi e_v1 ?_
  refine zQ.s (fun h => zs_dup o dJ4_sub_3 (by first | rfl | exact zrf_cat _)) ?_
  refine zQ.s (fun h => zs_istore_n (i := 0) o dJ4_sub_4 rfl (by decide) (Or.inl rfl) (by simp only [List.set_cons_succ, List.set_cons_zero]; rfl)) ?_
  refine zQ.b (fun h => zs_if_ge (tgt := 12) o dJ4_sub_5 (by decide)) (fun c => ?_) (fun c => ?_)
  · have hm := if_e1 hm c
    refine zQ.fg (zl_s (zl_n (zl_n zl_0))) ?_
    exact hj12 _ _ _ _ (by omega) (by omega) hm
  · have hm := if_e2 hm c
    refine zQ.s (fun h => zs_iload_n (i := 0) o dJ4_sub_8 rfl rfl) ?_
    refine zQ.s (fun h => zs_iload_n (i := 2) o dJ4_sub_9 rfl rfl) ?_
    refine zQ.s (fun h => zs_iadd o dJ4_sub_10) ?_
    obtain ⟨v2, e_v2, hm⟩ := lt_e hm
    refine zQ.nmi e_v2 ?_
    refine zQ.s (fun h => zs_istore_n (i := 0) o dJ4_sub_11 rfl (by decide) (Or.inl rfl) (by simp only [List.set_cons_succ, List.set_cons_zero]; rfl)) ?_
    refine zQ.fg (zl_s (zl_n (zl_n zl_0))) ?_
    exact hj12 _ _ _ _ (by omega) (by omega) hm

def j_J4_elementAt (h : zH) (a1 : Nat) (a2 : Int32) : Option (zH × Nat) :=
  gd (kd h a1 205) <|
  gd (inb a2 (zN h a1)) <|
  some (h, hR h 205 (ix a2) a1)

set_option maxHeartbeats 40000000 in
theorem J_J4_elementAt (G : zG) (h : zH) (a1 : Nat) (a2 : Int32) (V : Nat) (h9 : zH) (hm : j_J4_elementAt h a1 a2 = some (h9, V)) : zJr G yJ4_elementAt cJ4_elementAt 2 (some (.object "java/lang/Object")) 0 0 0 [zrf a1, .int a2] h V h9 := by
  refine zCo.st [some (zrf a1), some (.int a2)] rfl rfl (by simp only [zarg_r, zarg_i, zarg_l, zarg_0]; rfl) (fun X o f0 hin hw0 => ?_)
  have f := f0.e
  have hin : (Xt X).name = "elementAt" := hin
  refine (?_ : zQ (EH h) G X 0 0 0 [some (zrf a1), some (.int a2)] []) h rfl hw0
  clear hw0
  generalize hR9 : ((h9, V) : (zH × Nat)) = R at hm
  unfold j_J4_elementAt at hm
  refine zQ.s (fun h => zs_aload_n (i := 0) o dJ4_elementAt_0 rfl rfl) ?_
  refine zQ.s (fun h => zs_iload_n (i := 1) o dJ4_elementAt_1 rfl rfl) ?_
  obtain ⟨g1, hm⟩ := gd_e hm
  obtain ⟨g2, hm⟩ := gd_e hm
  refine zh_aald o (Or.inl rfl) g1 g2 dJ4_elementAt_2 ?_
  refine zh_retr o f dJ4_elementAt_3 rfl (by omega) (by omega) ((so_e hm).trans hR9.symm)

def j_J4_nonNullElementAt (h : zH) (a1 : Nat) (a2 : Int32) : Option (zH × Nat) :=
  gd (kd h a1 205) <|
  gd (inb a2 (zN h a1)) <|
  lt (hR h 205 (ix a2) a1) fun r3 =>
  if r3 = 0 then
    none
  else
    some (h, r3)

set_option maxHeartbeats 40000000 in
theorem J_J4_nonNullElementAt (G : zG) (h : zH) (a1 : Nat) (a2 : Int32) (V : Nat) (h9 : zH) (hm : j_J4_nonNullElementAt h a1 a2 = some (h9, V)) : zJr G yJ4_nonNullElementAt cJ4_nonNullElementAt 3 (some (.object "java/lang/Object")) 0 0 0 [zrf a1, .int a2] h V h9 := by
  refine zCo.st [some (zrf a1), some (.int a2), none] rfl rfl (by simp only [zarg_r, zarg_i, zarg_l, zarg_0]; rfl) (fun X o f0 hin hw0 => ?_)
  have f := f0.e
  have hin : (Xt X).name = "nonNullElementAt" := hin
  refine (?_ : zQ (EH h) G X 0 0 0 [some (zrf a1), some (.int a2), none] []) h rfl hw0
  clear hw0
  generalize hR9 : ((h9, V) : (zH × Nat)) = R at hm
  unfold j_J4_nonNullElementAt at hm
  refine zQ.s (fun h => zs_aload_n (i := 0) o dJ4_nonNullElementAt_0 rfl rfl) ?_
  refine zQ.s (fun h => zs_iload_n (i := 1) o dJ4_nonNullElementAt_1 rfl rfl) ?_
  obtain ⟨g1, hm⟩ := gd_e hm
  obtain ⟨g2, hm⟩ := gd_e hm
  refine zh_aald o (Or.inl rfl) g1 g2 dJ4_nonNullElementAt_2 ?_
  obtain ⟨r3, e_r3, hm⟩ := lt_e hm
  refine zQ.nmr e_r3 ?_
  refine zQ.s (fun h => zs_astore_n (i := 2) o dJ4_nonNullElementAt_3 rfl (by decide) (Or.inr rfl) (by simp only [List.set_cons_succ, List.set_cons_zero]; rfl)) ?_
  refine zQ.s (fun h => zs_aload_n (i := 2) o dJ4_nonNullElementAt_4 rfl rfl) ?_
  refine zQ.b (fun h => zs_ifnonnull (tgt := 16) o dJ4_nonNullElementAt_5 (by decide)) (fun c => ?_) (fun c => ?_)
  · have hm := if_e2 hm c
    refine zQ.s (fun h => zs_aload_n (i := 2) o dJ4_nonNullElementAt_16 rfl rfl) ?_
    refine zh_retr o f dJ4_nonNullElementAt_17 rfl (by omega) (by omega) ((so_e hm).trans hR9.symm)
  · have hm := if_e1 hm c
    exact no_e hm

def j_J4_circularClear_b12 (k12 : zH → Nat → Int32 → Int32 → Int32 → Option zH) (h : zH) (x0 : Nat) (x1 : Int32) (x2 : Int32) (x3 : Int32) : Option zH :=
  if x3 ≤ x1 then
    if x3 = x2 then
      some h
    else
      k12 h x0 (0 : Int32) x2 x2
  else
    gd (kd h x0 205) <|
    gd (wr h x0) <|
    gd (inb x1 (zN h x0)) <|
    gd (oka h 0) <|
    lt (pR h 205 (ix x1) x0 0) fun S5 =>
    k12 S5 x0 (x1 + (1 : Int32)) x2 x3
def j_J4_circularClear_l12 : Nat → zH → Nat → Int32 → Int32 → Int32 → Option zH
  | 0 => fun _ _ _ _ _ => none
  | n + 1 => j_J4_circularClear_b12 (j_J4_circularClear_l12 n)
def j_J4_circularClear_j11 (h : zH) (x0 : Nat) (x1 : Int32) (x2 : Int32) (s0 : Int32) : Option zH :=
  j_J4_circularClear_l12 100 h x0 x1 x2 s0
def j_J4_circularClear (h : zH) (a1 : Nat) (a2 : Int32) (a3 : Int32) : Option zH :=
  if a3 < a2 then
    gd (isA h a1) <|
    j_J4_circularClear_j11 h a1 a2 a3 (nI (zN h a1))
  else
    j_J4_circularClear_j11 h a1 a2 a3 a3

set_option maxHeartbeats 40000000 in
theorem J_J4_circularClear (G : zG) (h : zH) (a1 : Nat) (a2 : Int32) (a3 : Int32) (h9 : zH) (hm : j_J4_circularClear h a1 a2 a3 = some h9) : zJv G yJ4_circularClear cJ4_circularClear 4 none 0 0 0 [zrf a1, .int a2, .int a3] h h9 := by
  refine zCo.st [some (zrf a1), some (.int a2), some (.int a3), none] rfl rfl (by simp only [zarg_r, zarg_i, zarg_l, zarg_0]; rfl) (fun X o f0 hin hw0 => ?_)
  have f := f0.e
  have hin : (Xt X).name = "circularClear" := hin
  refine (?_ : zQ (EH h) G X 0 0 0 [some (zrf a1), some (.int a2), some (.int a3), none] []) h rfl hw0
  clear hw0
  generalize hR9 : (h9 : zH) = R at hm
  have hl12 : ∀ (n12 : Nat), n12 ≤ 100 → ∀ (h : zH) (x0 : Nat) (x1 : Int32) (x2 : Int32) (x3 : Int32) (cl sl : Nat), cl + (0) ≤ 0 → sl + (0) ≤ 0 → j_J4_circularClear_l12 n12 h x0 x1 x2 x3 = some R → zQ (EH h) G X cl sl 12 [some (zrf x0), some (.int x1), some (.int x2), some (.int x3)] [] := by
    intro n12
    induction n12 with
    | zero => intro _ h x0 x1 x2 x3 cl sl _ _ hm; exact no_e hm
    | succ n12 ih =>
      intro hf12
      have ih12 := ih (by omega)
      intro h x0 x1 x2 x3 cl sl hc hs hm
      have hm : j_J4_circularClear_b12 (j_J4_circularClear_l12 n12) h x0 x1 x2 x3 = some R := hm
      unfold j_J4_circularClear_b12 at hm
      refine zQ.s (fun h => zs_iload_n (i := 1) o dJ4_circularClear_12 rfl rfl) ?_
      refine zQ.s (fun h => zs_iload_n (i := 3) o dJ4_circularClear_13 rfl rfl) ?_
      refine zQ.b (fun h => zs_icmp_ge (tgt := 27) o dJ4_circularClear_14 (by decide)) (fun c => ?_) (fun c => ?_)
      · have hm := if_e1 hm c
        refine zQ.s (fun h => zs_iload_n (i := 3) o dJ4_circularClear_27 rfl rfl) ?_
        refine zQ.s (fun h => zs_iload_n (i := 2) o dJ4_circularClear_28 rfl rfl) ?_
        refine zQ.b (fun h => zs_icmp_ne (tgt := 35) o dJ4_circularClear_29 (by decide)) (fun c => ?_) (fun c => ?_)
        · have hm := if_e2 hm c
          refine zQ.s (fun h => zs_iconst (v := 0) o dJ4_circularClear_35 (by decide)) ?_
          refine zQ.s (fun h => zs_istore_n (i := 1) o dJ4_circularClear_36 rfl (by decide) (Or.inr (zc2_ref rfl)) (by simp only [List.set_cons_succ, List.set_cons_zero]; rfl)) ?_
          refine zQ.s (fun h => zs_iload_n (i := 2) o dJ4_circularClear_37 rfl rfl) ?_
          refine zQ.s (fun h => zs_istore_n (i := 3) o dJ4_circularClear_38 rfl (by decide) (Or.inr rfl) (by simp only [List.set_cons_succ, List.set_cons_zero]; rfl)) ?_
          refine zQ.s (fun h => zs_goto (tgt := 12) o dJ4_circularClear_39 (by decide)) ?_
          exact ih12 _ _ _ _ _ _ _ (by omega) (by omega) hm
        · have hm := if_e1 hm c
          refine zQ.s (fun h => zs_goto (tgt := 42) o dJ4_circularClear_32 (by decide)) ?_
          refine zh_retv o f dJ4_circularClear_42 (by omega) (by omega) ((so_e hm).trans hR9.symm)
      · have hm := if_e2 hm c
        refine zQ.s (fun h => zs_aload_n (i := 0) o dJ4_circularClear_17 rfl rfl) ?_
        refine zQ.s (fun h => zs_iload_n (i := 1) o dJ4_circularClear_18 rfl rfl) ?_
        refine zQ.s (fun h => zs_nul o dJ4_circularClear_19) ?_
        obtain ⟨g1, hm⟩ := gd_e hm
        obtain ⟨g2, hm⟩ := gd_e hm
        obtain ⟨g3, hm⟩ := gd_e hm
        obtain ⟨g4, hm⟩ := gd_e hm
        obtain ⟨S5, e_S5, hm⟩ := lt_e hm
        refine zh_aast o g1 g2 g3 g4 dJ4_circularClear_20 e_S5 ?_
        refine zQ.s (fun h => zs_iinc (i := 1) (v := x1 + (1 : Int32)) o dJ4_circularClear_21 rfl rfl (by decide) (Or.inr (zc2_ref rfl)) (by simp only [List.set_cons_succ, List.set_cons_zero]; rfl)) ?_
        refine zQ.s (fun h => zs_goto (tgt := 12) o dJ4_circularClear_24 (by decide)) ?_
        exact ih12 _ _ _ _ _ _ _ (by omega) (by omega) hm
  have hj11 : ∀ (h : zH) (x0 : Nat) (x1 : Int32) (x2 : Int32) (s0 : Int32) (cl sl : Nat), cl + (0) ≤ 0 → sl + (0) ≤ 0 → j_J4_circularClear_j11 h x0 x1 x2 s0 = some R → zQ (EH h) G X cl sl 11 [some (zrf x0), some (.int x1), some (.int x2), none] [.int s0] := by
    intro h x0 x1 x2 s0 cl sl hc hs hm
    unfold j_J4_circularClear_j11 at hm
    refine zQ.s (fun h => zs_istore_n (i := 3) o dJ4_circularClear_11 rfl (by decide) (Or.inr rfl) (by simp only [List.set_cons_succ, List.set_cons_zero]; rfl)) ?_
    exact hl12 100 (Nat.le_refl _) _ _ _ _ _ _ _ (by omega) (by omega) hm
  unfold j_J4_circularClear at hm
  refine zQ.s (fun h => zs_iload_n (i := 1) o dJ4_circularClear_0 rfl rfl) ?_
  refine zQ.s (fun h => zs_iload_n (i := 2) o dJ4_circularClear_1 rfl rfl) ?_
  refine zQ.b (fun h => zs_icmp_gt (tgt := 9) o dJ4_circularClear_2 (by decide)) (fun c => ?_) (fun c => ?_)
  · have hm := if_e1 hm c
    refine zQ.s (fun h => zs_aload_n (i := 0) o dJ4_circularClear_9 rfl rfl) ?_
    obtain ⟨g1, hm⟩ := gd_e hm
    refine zh_alen o g1 dJ4_circularClear_10 ?_
    exact hj11 _ _ _ _ _ _ _ (by omega) (by omega) hm
  · have hm := if_e2 hm c
    refine zQ.s (fun h => zs_iload_n (i := 2) o dJ4_circularClear_5 rfl rfl) ?_
    refine zQ.s (fun h => zs_goto (tgt := 11) o dJ4_circularClear_6 (by decide)) ?_
    exact hj11 _ _ _ _ _ _ _ (by omega) (by omega) hm

def j_J4_clear (h : zH) (p : Nat) : Option zH :=
  gd (kd h p 12) <|
  gd (kd h p 12) <|
  gd (kd h p 12) <|
  bd (j_J4_circularClear h (hR h 12 0 p) (hI h 12 1 p) (hI h 12 2 p)) fun y4 =>
  gd (kd y4 p 12) <|
  gd (wr y4 p) <|
  lt (pI y4 12 2 p (0 : Int32)) fun S7 =>
  gd (kd S7 p 12) <|
  gd (wr S7 p) <|
  lt (pI S7 12 1 p (0 : Int32)) fun S10 =>
  some S10

set_option maxHeartbeats 40000000 in
theorem J_J4_clear (G : zG) (h : zH) (p : Nat) (h9 : zH) (hm : j_J4_clear h p = some h9) : zJv G yJ4_clear cJ4_clear 1 none 1 0 0 [zrf p] h h9 := by
  refine zCo.st [some (zrf p)] rfl rfl (by simp only [zarg_r, zarg_i, zarg_l, zarg_0]; rfl) (fun X o f0 hin hw0 => ?_)
  have f := f0.e
  have hin : (Xt X).name = "clear" := hin
  refine (?_ : zQ (EH h) G X 0 0 0 [some (zrf p)] []) h rfl hw0
  clear hw0
  generalize hR9 : (h9 : zH) = R at hm
  unfold j_J4_clear at hm
  refine zQ.s (fun h => zs_aload_n (i := 0) o dJ4_clear_0 rfl rfl) ?_
  obtain ⟨g1, hm⟩ := gd_e hm
  refine zh_getR o g1 fl_J4_3_12 rfl dJ4_clear_1 ?_
  refine zQ.s (fun h => zs_aload_n (i := 0) o dJ4_clear_4 rfl rfl) ?_
  obtain ⟨g2, hm⟩ := gd_e hm
  refine zh_getI o g2 fl_J4_24_12 rfl dJ4_clear_5 ?_
  refine zQ.s (fun h => zs_aload_n (i := 0) o dJ4_clear_8 rfl rfl) ?_
  obtain ⟨g3, hm⟩ := gd_e hm
  refine zh_getI o g3 fl_J4_20_12 rfl dJ4_clear_9 ?_
  obtain ⟨y4, c_y4, hm⟩ := bd_e hm
  refine zh_Sv o ml_J4_181 (J_J4_circularClear G _ _ _ _ _  c_y4) dJ4_clear_12 rfl rfl rfl rfl (by omega) (by omega) ?_
  refine zQ.s (fun h => zs_aload_n (i := 0) o dJ4_clear_15 rfl rfl) ?_
  refine zQ.s (fun h => zs_aload_n (i := 0) o dJ4_clear_16 rfl rfl) ?_
  refine zQ.s (fun h => zs_iconst (v := 0) o dJ4_clear_17 (by decide)) ?_
  refine zQ.s (fun h => zs_dup_x1 o dJ4_clear_18 (by first | rfl | exact zrf_cat _) (by first | rfl | exact zrf_cat _)) ?_
  obtain ⟨g5, hm⟩ := gd_e hm
  obtain ⟨g6, hm⟩ := gd_e hm
  obtain ⟨S7, e_S7, hm⟩ := lt_e hm
  refine zh_putI o g5 g6 fl_J4_20_12 rfl rfl ⟨rfl, rfl⟩ dJ4_clear_19 e_S7 ?_
  obtain ⟨g8, hm⟩ := gd_e hm
  obtain ⟨g9, hm⟩ := gd_e hm
  obtain ⟨S10, e_S10, hm⟩ := lt_e hm
  refine zh_putI o g8 g9 fl_J4_24_12 rfl rfl ⟨rfl, rfl⟩ dJ4_clear_22 e_S10 ?_
  refine zh_retv o f dJ4_clear_25 (by omega) (by omega) ((so_e hm).trans hR9.symm)

def j_J4_addLast_j50 (h : zH) : Option zH :=
  some h
def j_J4_addLast (h : zH) (p : Nat) (a1 : Nat) : Option zH :=
  if a1 = 0 then
    none
  else
    gd (kd h p 12) <|
    lt (hR h 12 0 p) fun r2 =>
    gd (kd h p 12) <|
    gd (kd h r2 205) <|
    gd (wr h r2) <|
    gd (inb (hI h 12 2 p) (zN h r2)) <|
    gd (oka h a1) <|
    lt (pR h 205 (ix (hI h 12 2 p)) r2 a1) fun S8 =>
    gd (kd S8 p 12) <|
    gd (kd S8 p 12) <|
    gd (isA S8 r2) <|
    bd (j_J4_inc S8 (hI S8 12 2 p) (nI (zN S8 r2))) fun y12 =>
    gd (kd y12.1 p 12) <|
    gd (wr y12.1 p) <|
    lt (pI y12.1 12 2 p y12.2) fun S15 =>
    if (hI S8 12 1 p) = y12.2 then
      none
    else
      j_J4_addLast_j50 S15

set_option maxHeartbeats 40000000 in
theorem J_J4_addLast (G : zG) (h : zH) (p : Nat) (a1 : Nat) (h9 : zH) (hm : j_J4_addLast h p a1 = some h9) : zJv G yJ4_addLast cJ4_addLast 3 none 1 0 0 [zrf p, zrf a1] h h9 := by
  refine zCo.st [some (zrf p), some (zrf a1), none] rfl rfl (by simp only [zarg_r, zarg_i, zarg_l, zarg_0]; rfl) (fun X o f0 hin hw0 => ?_)
  have f := f0.e
  have hin : (Xt X).name = "addLast" := hin
  refine (?_ : zQ (EH h) G X 0 0 0 [some (zrf p), some (zrf a1), none] []) h rfl hw0
  clear hw0
  generalize hR9 : (h9 : zH) = R at hm
  have hj50 : ∀ (h : zH) (cl sl : Nat), cl + (0) ≤ 0 → sl + (0) ≤ 0 → j_J4_addLast_j50 h = some R → zQ (EH h) G X cl sl 50 [none, none, none] [] := by
    intro h cl sl hc hs hm
    unfold j_J4_addLast_j50 at hm
    refine zh_retv o f dJ4_addLast_50 (by omega) (by omega) ((so_e hm).trans hR9.symm)
  unfold j_J4_addLast at hm
  refine zQ.s (fun h => zs_aload_n (i := 1) o dJ4_addLast_0 rfl rfl) ?_
  refine zQ.b (fun h => zs_ifnonnull (tgt := 12) o dJ4_addLast_1 (by decide)) (fun c => ?_) (fun c => ?_)
  · have hm := if_e2 hm c
    refine zQ.s (fun h => zs_aload_n (i := 0) o dJ4_addLast_12 rfl rfl) ?_
    obtain ⟨g1, hm⟩ := gd_e hm
    refine zh_getR o g1 fl_J4_3_12 rfl dJ4_addLast_13 ?_
    obtain ⟨r2, e_r2, hm⟩ := lt_e hm
    refine zQ.nmr e_r2 ?_
    refine zQ.s (fun h => zs_astore_n (i := 2) o dJ4_addLast_16 rfl (by decide) (Or.inr (zc2_ref rfl)) (by simp only [List.set_cons_succ, List.set_cons_zero]; rfl)) ?_
    refine zQ.s (fun h => zs_aload_n (i := 2) o dJ4_addLast_17 rfl rfl) ?_
    refine zQ.s (fun h => zs_aload_n (i := 0) o dJ4_addLast_18 rfl rfl) ?_
    obtain ⟨g3, hm⟩ := gd_e hm
    refine zh_getI o g3 fl_J4_20_12 rfl dJ4_addLast_19 ?_
    refine zQ.s (fun h => zs_aload_n (i := 1) o dJ4_addLast_22 rfl rfl) ?_
    obtain ⟨g4, hm⟩ := gd_e hm
    obtain ⟨g5, hm⟩ := gd_e hm
    obtain ⟨g6, hm⟩ := gd_e hm
    obtain ⟨g7, hm⟩ := gd_e hm
    obtain ⟨S8, e_S8, hm⟩ := lt_e hm
    refine zh_aast o g4 g5 g6 g7 dJ4_addLast_23 e_S8 ?_
    refine zQ.s (fun h => zs_aload_n (i := 0) o dJ4_addLast_24 rfl rfl) ?_
    obtain ⟨g9, hm⟩ := gd_e hm
    refine zh_getI o g9 fl_J4_24_12 rfl dJ4_addLast_25 ?_
    refine zQ.s (fun h => zs_aload_n (i := 0) o dJ4_addLast_28 rfl rfl) ?_
    refine zQ.s (fun h => zs_aload_n (i := 0) o dJ4_addLast_29 rfl rfl) ?_
    obtain ⟨g10, hm⟩ := gd_e hm
    refine zh_getI o g10 fl_J4_20_12 rfl dJ4_addLast_30 ?_
    refine zQ.s (fun h => zs_aload_n (i := 2) o dJ4_addLast_33 rfl rfl) ?_
    obtain ⟨g11, hm⟩ := gd_e hm
    refine zh_alen o g11 dJ4_addLast_34 ?_
    obtain ⟨y12, c_y12, hm⟩ := bd_e hm
    refine zh_Si o ml_J4_74 (J_J4_inc G _ _ _ _ _  c_y12) dJ4_addLast_35 rfl rfl rfl rfl (by omega) (by omega) ?_
    refine zQ.s (fun h => zs_dup_x1 o dJ4_addLast_38 (by first | rfl | exact zrf_cat _) (by first | rfl | exact zrf_cat _)) ?_
    obtain ⟨g13, hm⟩ := gd_e hm
    obtain ⟨g14, hm⟩ := gd_e hm
    obtain ⟨S15, e_S15, hm⟩ := lt_e hm
    refine zh_putI o g13 g14 fl_J4_20_12 rfl rfl ⟨rfl, rfl⟩ dJ4_addLast_39 e_S15 ?_
    refine zQ.b (fun h => zs_icmp_ne (tgt := 50) o dJ4_addLast_42 (by decide)) (fun c => ?_) (fun c => ?_)
    · have hm := if_e2 hm c
      refine zQ.fg (zl_n (zl_n (zl_n zl_0))) ?_
      exact hj50 _ _ _ (by omega) (by omega) hm
    · have hm := if_e1 hm c
      refine zQ.s (fun h => zs_aload_n (i := 0) o dJ4_addLast_45 rfl rfl) ?_
      refine zQ.s (fun h => zs_iconst (v := 1) o dJ4_addLast_46 (by decide)) ?_
      exact no_e hm
  · have hm := if_e1 hm c
    exact no_e hm

def j_J4_size (h : zH) (p : Nat) : Option (zH × Int32) :=
  gd (kd h p 12) <|
  gd (kd h p 12) <|
  gd (kd h p 12) <|
  gd (isA h (hR h 12 0 p)) <|
  bd (j_J4_sub h (hI h 12 2 p) (hI h 12 1 p) (nI (zN h (hR h 12 0 p)))) fun y5 =>
  some (y5.1, y5.2)

set_option maxHeartbeats 40000000 in
theorem J_J4_size (G : zG) (h : zH) (p : Nat) (V : Int32) (h9 : zH) (hm : j_J4_size h p = some (h9, V)) : zJi G yJ4_size cJ4_size 1 (some .int) 1 0 0 [zrf p] h V h9 := by
  refine zCo.st [some (zrf p)] rfl rfl (by simp only [zarg_r, zarg_i, zarg_l, zarg_0]; rfl) (fun X o f0 hin hw0 => ?_)
  have f := f0.e
  have hin : (Xt X).name = "size" := hin
  refine (?_ : zQ (EH h) G X 0 0 0 [some (zrf p)] []) h rfl hw0
  clear hw0
  generalize hR9 : ((h9, V) : (zH × Int32)) = R at hm
  unfold j_J4_size at hm
  refine zQ.s (fun h => zs_aload_n (i := 0) o dJ4_size_0 rfl rfl) ?_
  obtain ⟨g1, hm⟩ := gd_e hm
  refine zh_getI o g1 fl_J4_20_12 rfl dJ4_size_1 ?_
  refine zQ.s (fun h => zs_aload_n (i := 0) o dJ4_size_4 rfl rfl) ?_
  obtain ⟨g2, hm⟩ := gd_e hm
  refine zh_getI o g2 fl_J4_24_12 rfl dJ4_size_5 ?_
  refine zQ.s (fun h => zs_aload_n (i := 0) o dJ4_size_8 rfl rfl) ?_
  obtain ⟨g3, hm⟩ := gd_e hm
  refine zh_getR o g3 fl_J4_3_12 rfl dJ4_size_9 ?_
  obtain ⟨g4, hm⟩ := gd_e hm
  refine zh_alen o g4 dJ4_size_12 ?_
  obtain ⟨y5, c_y5, hm⟩ := bd_e hm
  refine zh_Si o ml_J4_127 (J_J4_sub G _ _ _ _ _ _  c_y5) dJ4_size_13 rfl rfl rfl rfl (by omega) (by omega) ?_
  refine zh_reti o f dJ4_size_16 rfl (by omega) (by omega) ((so_e hm).trans hR9.symm)

def j_J4_isEmpty_j16 (h : zH) (s0 : Int32) : Option (zH × Int32) :=
  gd (b01 s0) <|
  some (h, s0)
def j_J4_isEmpty (h : zH) (p : Nat) : Option (zH × Int32) :=
  gd (kd h p 12) <|
  gd (kd h p 12) <|
  if (hI h 12 1 p) = (hI h 12 2 p) then
    j_J4_isEmpty_j16 h (1 : Int32)
  else
    j_J4_isEmpty_j16 h (0 : Int32)

set_option maxHeartbeats 40000000 in
theorem J_J4_isEmpty (G : zG) (h : zH) (p : Nat) (V : Int32) (h9 : zH) (hm : j_J4_isEmpty h p = some (h9, V)) : zJi G yJ4_isEmpty cJ4_isEmpty 1 (some .boolean) 0 0 0 [zrf p] h V h9 := by
  refine zCo.st [some (zrf p)] rfl rfl (by simp only [zarg_r, zarg_i, zarg_l, zarg_0]; rfl) (fun X o f0 hin hw0 => ?_)
  have f := f0.e
  have hin : (Xt X).name = "isEmpty" := hin
  refine (?_ : zQ (EH h) G X 0 0 0 [some (zrf p)] []) h rfl hw0
  clear hw0
  generalize hR9 : ((h9, V) : (zH × Int32)) = R at hm
  have hj16 : ∀ (h : zH) (s0 : Int32) (cl sl : Nat), cl + (0) ≤ 0 → sl + (0) ≤ 0 → j_J4_isEmpty_j16 h s0 = some R → zQ (EH h) G X cl sl 16 [none] [.int s0] := by
    intro h s0 cl sl hc hs hm
    unfold j_J4_isEmpty_j16 at hm
    obtain ⟨g1, hm⟩ := gd_e hm
    refine zh_reti o f dJ4_isEmpty_16 (b01_e g1).1 (by omega) (by omega) ((so_e hm).trans hR9.symm)
  unfold j_J4_isEmpty at hm
  refine zQ.s (fun h => zs_aload_n (i := 0) o dJ4_isEmpty_0 rfl rfl) ?_
  obtain ⟨g1, hm⟩ := gd_e hm
  refine zh_getI o g1 fl_J4_24_12 rfl dJ4_isEmpty_1 ?_
  refine zQ.s (fun h => zs_aload_n (i := 0) o dJ4_isEmpty_4 rfl rfl) ?_
  obtain ⟨g2, hm⟩ := gd_e hm
  refine zh_getI o g2 fl_J4_20_12 rfl dJ4_isEmpty_5 ?_
  refine zQ.b (fun h => zs_icmp_ne (tgt := 15) o dJ4_isEmpty_8 (by decide)) (fun c => ?_) (fun c => ?_)
  · have hm := if_e2 hm c
    refine zQ.s (fun h => zs_iconst (v := 0) o dJ4_isEmpty_15 (by decide)) ?_
    refine zQ.fg (zl_n zl_0) ?_
    exact hj16 _ _ _ _ (by omega) (by omega) hm
  · have hm := if_e1 hm c
    refine zQ.s (fun h => zs_iconst (v := 1) o dJ4_isEmpty_11 (by decide)) ?_
    refine zQ.s (fun h => zs_goto (tgt := 16) o dJ4_isEmpty_12 (by decide)) ?_
    refine zQ.fg (zl_n zl_0) ?_
    exact hj16 _ _ _ _ (by omega) (by omega) hm

def j_J4_getFirst (h : zH) (p : Nat) : Option (zH × Nat) :=
  gd (kd h p 12) <|
  gd (kd h p 12) <|
  bd (j_J4_elementAt h (hR h 12 0 p) (hI h 12 1 p)) fun y3 =>
  if y3.2 = 0 then
    none
  else
    some (y3.1, y3.2)

set_option maxHeartbeats 40000000 in
theorem J_J4_getFirst (G : zG) (h : zH) (p : Nat) (V : Nat) (h9 : zH) (hm : j_J4_getFirst h p = some (h9, V)) : zJr G yJ4_getFirst cJ4_getFirst 2 (some (.object "java/lang/Object")) 1 0 0 [zrf p] h V h9 := by
  refine zCo.st [some (zrf p), none] rfl rfl (by simp only [zarg_r, zarg_i, zarg_l, zarg_0]; rfl) (fun X o f0 hin hw0 => ?_)
  have f := f0.e
  have hin : (Xt X).name = "getFirst" := hin
  refine (?_ : zQ (EH h) G X 0 0 0 [some (zrf p), none] []) h rfl hw0
  clear hw0
  generalize hR9 : ((h9, V) : (zH × Nat)) = R at hm
  unfold j_J4_getFirst at hm
  refine zQ.s (fun h => zs_aload_n (i := 0) o dJ4_getFirst_0 rfl rfl) ?_
  obtain ⟨g1, hm⟩ := gd_e hm
  refine zh_getR o g1 fl_J4_3_12 rfl dJ4_getFirst_1 ?_
  refine zQ.s (fun h => zs_aload_n (i := 0) o dJ4_getFirst_4 rfl rfl) ?_
  obtain ⟨g2, hm⟩ := gd_e hm
  refine zh_getI o g2 fl_J4_24_12 rfl dJ4_getFirst_5 ?_
  obtain ⟨y3, c_y3, hm⟩ := bd_e hm
  refine zh_Sr o ml_J4_103 (J_J4_elementAt G _ _ _ _ _  c_y3) dJ4_getFirst_8 rfl rfl rfl rfl (by omega) (by omega) ?_
  refine zQ.s (fun h => zs_astore_n (i := 1) o dJ4_getFirst_11 rfl (by decide) (Or.inr (zc2_ref rfl)) (by simp only [List.set_cons_succ, List.set_cons_zero]; rfl)) ?_
  refine zQ.s (fun h => zs_aload_n (i := 1) o dJ4_getFirst_12 rfl rfl) ?_
  refine zQ.b (fun h => zs_ifnonnull (tgt := 24) o dJ4_getFirst_13 (by decide)) (fun c => ?_) (fun c => ?_)
  · have hm := if_e2 hm c
    refine zQ.s (fun h => zs_aload_n (i := 1) o dJ4_getFirst_24 rfl rfl) ?_
    refine zh_retr o f dJ4_getFirst_25 rfl (by omega) (by omega) ((so_e hm).trans hR9.symm)
  · have hm := if_e1 hm c
    exact no_e hm

def j_J4_pollFirst_j34 (h : zH) (x3 : Nat) : Option (zH × Nat) :=
  some (h, x3)
def j_J4_pollFirst (h : zH) (p : Nat) : Option (zH × Nat) :=
  gd (kd h p 12) <|
  lt (hR h 12 0 p) fun r2 =>
  gd (kd h p 12) <|
  lt (hI h 12 1 p) fun v4 =>
  bd (j_J4_elementAt h r2 v4) fun y5 =>
  if y5.2 = 0 then
    j_J4_pollFirst_j34 y5.1 y5.2
  else
    gd (kd y5.1 r2 205) <|
    gd (wr y5.1 r2) <|
    gd (inb v4 (zN y5.1 r2)) <|
    gd (oka y5.1 0) <|
    lt (pR y5.1 205 (ix v4) r2 0) fun S10 =>
    gd (isA S10 r2) <|
    bd (j_J4_inc S10 v4 (nI (zN S10 r2))) fun y12 =>
    gd (kd y12.1 p 12) <|
    gd (wr y12.1 p) <|
    lt (pI y12.1 12 1 p y12.2) fun S15 =>
    j_J4_pollFirst_j34 S15 y5.2

set_option maxHeartbeats 40000000 in
theorem J_J4_pollFirst (G : zG) (h : zH) (p : Nat) (V : Nat) (h9 : zH) (hm : j_J4_pollFirst h p = some (h9, V)) : zJr G yJ4_pollFirst cJ4_pollFirst 4 (some (.object "java/lang/Object")) 1 0 0 [zrf p] h V h9 := by
  refine zCo.st [some (zrf p), none, none, none] rfl rfl (by simp only [zarg_r, zarg_i, zarg_l, zarg_0]; rfl) (fun X o f0 hin hw0 => ?_)
  have f := f0.e
  have hin : (Xt X).name = "pollFirst" := hin
  refine (?_ : zQ (EH h) G X 0 0 0 [some (zrf p), none, none, none] []) h rfl hw0
  clear hw0
  generalize hR9 : ((h9, V) : (zH × Nat)) = R at hm
  have hj34 : ∀ (h : zH) (x3 : Nat) (cl sl : Nat), cl + (0) ≤ 0 → sl + (0) ≤ 0 → j_J4_pollFirst_j34 h x3 = some R → zQ (EH h) G X cl sl 34 [none, none, none, some (zrf x3)] [] := by
    intro h x3 cl sl hc hs hm
    unfold j_J4_pollFirst_j34 at hm
    refine zQ.s (fun h => zs_aload_n (i := 3) o dJ4_pollFirst_34 rfl rfl) ?_
    refine zh_retr o f dJ4_pollFirst_35 rfl (by omega) (by omega) ((so_e hm).trans hR9.symm)
  unfold j_J4_pollFirst at hm
  refine zQ.s (fun h => zs_aload_n (i := 0) o dJ4_pollFirst_0 rfl rfl) ?_
  obtain ⟨g1, hm⟩ := gd_e hm
  refine zh_getR o g1 fl_J4_3_12 rfl dJ4_pollFirst_1 ?_
  obtain ⟨r2, e_r2, hm⟩ := lt_e hm
  refine zQ.nmr e_r2 ?_
  refine zQ.s (fun h => zs_dup o dJ4_pollFirst_4 (by first | rfl | exact zrf_cat _)) ?_
  refine zQ.s (fun h => zs_astore_n (i := 1) o dJ4_pollFirst_5 rfl (by decide) (Or.inr (zc2_ref rfl)) (by simp only [List.set_cons_succ, List.set_cons_zero]; rfl)) ?_
  refine zQ.s (fun h => zs_aload_n (i := 0) o dJ4_pollFirst_6 rfl rfl) ?_
  obtain ⟨g3, hm⟩ := gd_e hm
  refine zh_getI o g3 fl_J4_24_12 rfl dJ4_pollFirst_7 ?_
  obtain ⟨v4, e_v4, hm⟩ := lt_e hm
  refine zQ.nmi e_v4 ?_
  refine zQ.s (fun h => zs_dup o dJ4_pollFirst_10 (by first | rfl | exact zrf_cat _)) ?_
  refine zQ.s (fun h => zs_istore_n (i := 2) o dJ4_pollFirst_11 rfl (by decide) (Or.inr (zc2_ref rfl)) (by simp only [List.set_cons_succ, List.set_cons_zero]; rfl)) ?_
  obtain ⟨y5, c_y5, hm⟩ := bd_e hm
  refine zh_Sr o ml_J4_103 (J_J4_elementAt G _ _ _ _ _  c_y5) dJ4_pollFirst_12 rfl rfl rfl rfl (by omega) (by omega) ?_
  refine zQ.s (fun h => zs_astore_n (i := 3) o dJ4_pollFirst_15 rfl (by decide) (Or.inr rfl) (by simp only [List.set_cons_succ, List.set_cons_zero]; rfl)) ?_
  refine zQ.s (fun h => zs_aload_n (i := 3) o dJ4_pollFirst_16 rfl rfl) ?_
  refine zQ.b (fun h => zs_ifnull (tgt := 34) o dJ4_pollFirst_17 (by decide)) (fun c => ?_) (fun c => ?_)
  · have hm := if_e1 hm c
    refine zQ.fg (zl_n (zl_n (zl_n (zl_s zl_0)))) ?_
    exact hj34 _ _ _ _ (by omega) (by omega) hm
  · have hm := if_e2 hm c
    refine zQ.s (fun h => zs_aload_n (i := 1) o dJ4_pollFirst_20 rfl rfl) ?_
    refine zQ.s (fun h => zs_iload_n (i := 2) o dJ4_pollFirst_21 rfl rfl) ?_
    refine zQ.s (fun h => zs_nul o dJ4_pollFirst_22) ?_
    obtain ⟨g6, hm⟩ := gd_e hm
    obtain ⟨g7, hm⟩ := gd_e hm
    obtain ⟨g8, hm⟩ := gd_e hm
    obtain ⟨g9, hm⟩ := gd_e hm
    obtain ⟨S10, e_S10, hm⟩ := lt_e hm
    refine zh_aast o g6 g7 g8 g9 dJ4_pollFirst_23 e_S10 ?_
    refine zQ.s (fun h => zs_aload_n (i := 0) o dJ4_pollFirst_24 rfl rfl) ?_
    refine zQ.s (fun h => zs_iload_n (i := 2) o dJ4_pollFirst_25 rfl rfl) ?_
    refine zQ.s (fun h => zs_aload_n (i := 1) o dJ4_pollFirst_26 rfl rfl) ?_
    obtain ⟨g11, hm⟩ := gd_e hm
    refine zh_alen o g11 dJ4_pollFirst_27 ?_
    obtain ⟨y12, c_y12, hm⟩ := bd_e hm
    refine zh_Si o ml_J4_74 (J_J4_inc G _ _ _ _ _  c_y12) dJ4_pollFirst_28 rfl rfl rfl rfl (by omega) (by omega) ?_
    obtain ⟨g13, hm⟩ := gd_e hm
    obtain ⟨g14, hm⟩ := gd_e hm
    obtain ⟨S15, e_S15, hm⟩ := lt_e hm
    refine zh_putI o g13 g14 fl_J4_24_12 rfl rfl ⟨rfl, rfl⟩ dJ4_pollFirst_31 e_S15 ?_
    refine zQ.fg (zl_n (zl_n (zl_n (zl_s zl_0)))) ?_
    exact hj34 _ _ _ _ (by omega) (by omega) hm

def j_J4_removeFirst (h : zH) (p : Nat) : Option (zH × Nat) :=
  gd (kd h p 12) <|
  bd (j_J4_pollFirst h p) fun y2 =>
  if y2.2 = 0 then
    none
  else
    some (y2.1, y2.2)

set_option maxHeartbeats 40000000 in
theorem J_J4_removeFirst (G : zG) (h : zH) (p : Nat) (V : Nat) (h9 : zH) (hm : j_J4_removeFirst h p = some (h9, V)) : zJr G yJ4_removeFirst cJ4_removeFirst 2 (some (.object "java/lang/Object")) 2 0 0 [zrf p] h V h9 := by
  refine zCo.st [some (zrf p), none] rfl rfl (by simp only [zarg_r, zarg_i, zarg_l, zarg_0]; rfl) (fun X o f0 hin hw0 => ?_)
  have f := f0.e
  have hin : (Xt X).name = "removeFirst" := hin
  refine (?_ : zQ (EH h) G X 0 0 0 [some (zrf p), none] []) h rfl hw0
  clear hw0
  generalize hR9 : ((h9, V) : (zH × Nat)) = R at hm
  unfold j_J4_removeFirst at hm
  refine zQ.s (fun h => zs_aload_n (i := 0) o dJ4_removeFirst_0 rfl rfl) ?_
  obtain ⟨g1, hm⟩ := gd_e hm
  obtain ⟨y2, c_y2, hm⟩ := bd_e hm
  refine zh_Vr o g1 ml_J4_93 (J_J4_pollFirst G _ _ _ _  c_y2) dJ4_removeFirst_1 rfl rfl rfl rfl (by omega) (by omega) ?_
  refine zQ.s (fun h => zs_astore_n (i := 1) o dJ4_removeFirst_4 rfl (by decide) (Or.inr (zc2_ref rfl)) (by simp only [List.set_cons_succ, List.set_cons_zero]; rfl)) ?_
  refine zQ.s (fun h => zs_aload_n (i := 1) o dJ4_removeFirst_5 rfl rfl) ?_
  refine zQ.b (fun h => zs_ifnonnull (tgt := 17) o dJ4_removeFirst_6 (by decide)) (fun c => ?_) (fun c => ?_)
  · have hm := if_e2 hm c
    refine zQ.s (fun h => zs_aload_n (i := 1) o dJ4_removeFirst_17 rfl rfl) ?_
    refine zh_retr o f dJ4_removeFirst_18 rfl (by omega) (by omega) ((so_e hm).trans hR9.symm)
  · have hm := if_e1 hm c
    exact no_e hm

def j_J35_init (h : zH) (p : Nat) (a1 : Nat) : Option zH :=
  gd (kd h p 18) <|
  gd (wr h p) <|
  lt (pR h 18 3 p a1) fun S3 =>
  gd (nzr p) <|
  gd (kd S3 p 18) <|
  gd (kd S3 (hR S3 18 3 p) 12) <|
  bd (j_J4_size S3 (hR S3 18 3 p)) fun y7 =>
  gd (kd y7.1 p 18) <|
  gd (wr y7.1 p) <|
  lt (pI y7.1 18 1 p y7.2) fun S10 =>
  gd (kd S10 p 18) <|
  gd (wr S10 p) <|
  lt (pI S10 18 2 p (-1 : Int32)) fun S13 =>
  gd (kd S13 a1 12) <|
  gd (kd S13 p 18) <|
  gd (wr S13 p) <|
  lt (pI S13 18 0 p (hI S13 12 1 a1)) fun S17 =>
  some S17

set_option maxHeartbeats 40000000 in
theorem J_J35_init (G : zG) (h : zH) (p : Nat) (a1 : Nat) (h9 : zH) (hm : j_J35_init h p a1 = some h9) : zJv G yJ35_init cJ35_init 2 none 2 0 0 [zrf p, zrf a1] h h9 := by
  refine zCo.st [some (zrf p), some (zrf a1)] rfl rfl (by simp only [zarg_r, zarg_i, zarg_l, zarg_0]; rfl) (fun X o f0 hin hw0 => ?_)
  have f := f0.e
  have hin : (Xt X).name = "<init>" := hin
  refine (?_ : zQ (EH h) G X 0 0 0 [some (zrf p), some (zrf a1)] []) h rfl hw0
  clear hw0
  generalize hR9 : (h9 : zH) = R at hm
  unfold j_J35_init at hm
  refine zQ.s (fun h => zs_aload_n (i := 0) o dJ35_init_0 rfl rfl) ?_
  refine zQ.s (fun h => zs_aload_n (i := 1) o dJ35_init_1 rfl rfl) ?_
  obtain ⟨g1, hm⟩ := gd_e hm
  obtain ⟨g2, hm⟩ := gd_e hm
  obtain ⟨S3, e_S3, hm⟩ := lt_e hm
  refine zh_putRF o hin g1 g2 fl_J35_1_18 rfl ⟨rfl, rfl⟩ dJ35_init_2 e_S3 ?_
  refine zQ.s (fun h => zs_aload_n (i := 0) o dJ35_init_5 rfl rfl) ?_
  obtain ⟨g4, hm⟩ := gd_e hm
  refine zh_objInit o g4 q1441 q163 q164 dJ35_init_6 rfl rfl ?_
  refine zQ.s (fun h => zs_aload_n (i := 0) o dJ35_init_9 rfl rfl) ?_
  refine zQ.s (fun h => zs_aload_n (i := 0) o dJ35_init_10 rfl rfl) ?_
  obtain ⟨g5, hm⟩ := gd_e hm
  refine zh_getR o g5 fl_J35_1_18 rfl dJ35_init_11 ?_
  obtain ⟨g6, hm⟩ := gd_e hm
  obtain ⟨y7, c_y7, hm⟩ := bd_e hm
  refine zh_Vi o g6 ml_J35_13 (J_J4_size G _ _ _ _  c_y7) dJ35_init_14 rfl rfl rfl rfl (by omega) (by omega) ?_
  obtain ⟨g8, hm⟩ := gd_e hm
  obtain ⟨g9, hm⟩ := gd_e hm
  obtain ⟨S10, e_S10, hm⟩ := lt_e hm
  refine zh_putI o g8 g9 fl_J35_19_18 rfl rfl ⟨rfl, rfl⟩ dJ35_init_17 e_S10 ?_
  refine zQ.s (fun h => zs_aload_n (i := 0) o dJ35_init_20 rfl rfl) ?_
  refine zQ.s (fun h => zs_iconst (v := -1) o dJ35_init_21 (by decide)) ?_
  obtain ⟨g11, hm⟩ := gd_e hm
  obtain ⟨g12, hm⟩ := gd_e hm
  obtain ⟨S13, e_S13, hm⟩ := lt_e hm
  refine zh_putI o g11 g12 fl_J35_23_18 rfl rfl ⟨rfl, rfl⟩ dJ35_init_22 e_S13 ?_
  refine zQ.s (fun h => zs_aload_n (i := 0) o dJ35_init_25 rfl rfl) ?_
  refine zQ.s (fun h => zs_aload_n (i := 1) o dJ35_init_26 rfl rfl) ?_
  obtain ⟨g14, hm⟩ := gd_e hm
  refine zh_getI o g14 fl_J35_26_12 rfl dJ35_init_27 ?_
  obtain ⟨g15, hm⟩ := gd_e hm
  obtain ⟨g16, hm⟩ := gd_e hm
  obtain ⟨S17, e_S17, hm⟩ := lt_e hm
  refine zh_putI o g15 g16 fl_J35_29_18 rfl rfl ⟨rfl, rfl⟩ dJ35_init_30 e_S17 ?_
  refine zh_retv o f dJ35_init_33 (by omega) (by omega) ((so_e hm).trans hR9.symm)

def j_J35_hasNext_j12 (h : zH) (s0 : Int32) : Option (zH × Int32) :=
  gd (b01 s0) <|
  some (h, s0)
def j_J35_hasNext (h : zH) (p : Nat) : Option (zH × Int32) :=
  gd (kd h p 18) <|
  if (hI h 18 1 p) ≤ (0 : Int32) then
    j_J35_hasNext_j12 h (0 : Int32)
  else
    j_J35_hasNext_j12 h (1 : Int32)

set_option maxHeartbeats 40000000 in
theorem J_J35_hasNext (G : zG) (h : zH) (p : Nat) (V : Int32) (h9 : zH) (hm : j_J35_hasNext h p = some (h9, V)) : zJi G yJ35_hasNext cJ35_hasNext 1 (some .boolean) 0 0 0 [zrf p] h V h9 := by
  refine zCo.st [some (zrf p)] rfl rfl (by simp only [zarg_r, zarg_i, zarg_l, zarg_0]; rfl) (fun X o f0 hin hw0 => ?_)
  have f := f0.e
  have hin : (Xt X).name = "hasNext" := hin
  refine (?_ : zQ (EH h) G X 0 0 0 [some (zrf p)] []) h rfl hw0
  clear hw0
  generalize hR9 : ((h9, V) : (zH × Int32)) = R at hm
  have hj12 : ∀ (h : zH) (s0 : Int32) (cl sl : Nat), cl + (0) ≤ 0 → sl + (0) ≤ 0 → j_J35_hasNext_j12 h s0 = some R → zQ (EH h) G X cl sl 12 [none] [.int s0] := by
    intro h s0 cl sl hc hs hm
    unfold j_J35_hasNext_j12 at hm
    obtain ⟨g1, hm⟩ := gd_e hm
    refine zh_reti o f dJ35_hasNext_12 (b01_e g1).1 (by omega) (by omega) ((so_e hm).trans hR9.symm)
  unfold j_J35_hasNext at hm
  refine zQ.s (fun h => zs_aload_n (i := 0) o dJ35_hasNext_0 rfl rfl) ?_
  obtain ⟨g1, hm⟩ := gd_e hm
  refine zh_getI o g1 fl_J35_19_18 rfl dJ35_hasNext_1 ?_
  refine zQ.b (fun h => zs_if_le (tgt := 11) o dJ35_hasNext_4 (by decide)) (fun c => ?_) (fun c => ?_)
  · have hm := if_e1 hm c
    refine zQ.s (fun h => zs_iconst (v := 0) o dJ35_hasNext_11 (by decide)) ?_
    refine zQ.fg (zl_n zl_0) ?_
    exact hj12 _ _ _ _ (by omega) (by omega) hm
  · have hm := if_e2 hm c
    refine zQ.s (fun h => zs_iconst (v := 1) o dJ35_hasNext_7 (by decide)) ?_
    refine zQ.s (fun h => zs_goto (tgt := 12) o dJ35_hasNext_8 (by decide)) ?_
    refine zQ.fg (zl_n zl_0) ?_
    exact hj12 _ _ _ _ (by omega) (by omega) hm

def j_J35_next (h : zH) (p : Nat) : Option (zH × Nat) :=
  gd (kd h p 18) <|
  if (0 : Int32) < (hI h 18 1 p) then
    gd (kd h p 18) <|
    gd (kd h (hR h 18 3 p) 12) <|
    lt (hR h 12 0 (hR h 18 3 p)) fun r4 =>
    gd (kd h p 18) <|
    bd (j_J4_nonNullElementAt h r4 (hI h 18 0 p)) fun y6 =>
    gd (kd y6.1 p 18) <|
    lt (hI y6.1 18 0 p) fun v8 =>
    gd (kd y6.1 p 18) <|
    gd (wr y6.1 p) <|
    lt (pI y6.1 18 2 p v8) fun S11 =>
    gd (isA S11 r4) <|
    bd (j_J4_inc S11 v8 (nI (zN S11 r4))) fun y13 =>
    gd (kd y13.1 p 18) <|
    gd (wr y13.1 p) <|
    lt (pI y13.1 18 0 p y13.2) fun S16 =>
    gd (kd S16 p 18) <|
    gd (kd S16 p 18) <|
    gd (wr S16 p) <|
    lt (pI S16 18 1 p ((hI S16 18 1 p) - (1 : Int32))) fun S20 =>
    some (S20, y6.2)
  else
    none

set_option maxHeartbeats 40000000 in
theorem J_J35_next (G : zG) (h : zH) (p : Nat) (V : Nat) (h9 : zH) (hm : j_J35_next h p = some (h9, V)) : zJr G yJ35_next cJ35_next 3 (some (.object "java/lang/Object")) 1 0 0 [zrf p] h V h9 := by
  refine zCo.st [some (zrf p), none, none] rfl rfl (by simp only [zarg_r, zarg_i, zarg_l, zarg_0]; rfl) (fun X o f0 hin hw0 => ?_)
  have f := f0.e
  have hin : (Xt X).name = "next" := hin
  refine (?_ : zQ (EH h) G X 0 0 0 [some (zrf p), none, none] []) h rfl hw0
  clear hw0
  generalize hR9 : ((h9, V) : (zH × Nat)) = R at hm
  unfold j_J35_next at hm
  refine zQ.s (fun h => zs_aload_n (i := 0) o dJ35_next_0 rfl rfl) ?_
  obtain ⟨g1, hm⟩ := gd_e hm
  refine zh_getI o g1 fl_J35_19_18 rfl dJ35_next_1 ?_
  refine zQ.b (fun h => zs_if_gt (tgt := 15) o dJ35_next_4 (by decide)) (fun c => ?_) (fun c => ?_)
  · have hm := if_e1 hm c
    refine zQ.s (fun h => zs_aload_n (i := 0) o dJ35_next_15 rfl rfl) ?_
    obtain ⟨g2, hm⟩ := gd_e hm
    refine zh_getR o g2 fl_J35_1_18 rfl dJ35_next_16 ?_
    obtain ⟨g3, hm⟩ := gd_e hm
    refine zh_getR o g3 fl_J35_35_12 rfl dJ35_next_19 ?_
    obtain ⟨r4, e_r4, hm⟩ := lt_e hm
    refine zQ.nmr e_r4 ?_
    refine zQ.s (fun h => zs_astore_n (i := 1) o dJ35_next_22 rfl (by decide) (Or.inr (zc2_ref rfl)) (by simp only [List.set_cons_succ, List.set_cons_zero]; rfl)) ?_
    refine zQ.s (fun h => zs_aload_n (i := 1) o dJ35_next_23 rfl rfl) ?_
    refine zQ.s (fun h => zs_aload_n (i := 0) o dJ35_next_24 rfl rfl) ?_
    obtain ⟨g5, hm⟩ := gd_e hm
    refine zh_getI o g5 fl_J35_29_18 rfl dJ35_next_25 ?_
    obtain ⟨y6, c_y6, hm⟩ := bd_e hm
    refine zh_Sr o ml_J35_39 (J_J4_nonNullElementAt G _ _ _ _ _  c_y6) dJ35_next_28 rfl rfl rfl rfl (by omega) (by omega) ?_
    refine zQ.s (fun h => zs_astore_n (i := 2) o dJ35_next_31 rfl (by decide) (Or.inr (zc2_ref rfl)) (by simp only [List.set_cons_succ, List.set_cons_zero]; rfl)) ?_
    refine zQ.s (fun h => zs_aload_n (i := 0) o dJ35_next_32 rfl rfl) ?_
    refine zQ.s (fun h => zs_aload_n (i := 0) o dJ35_next_33 rfl rfl) ?_
    refine zQ.s (fun h => zs_aload_n (i := 0) o dJ35_next_34 rfl rfl) ?_
    obtain ⟨g7, hm⟩ := gd_e hm
    refine zh_getI o g7 fl_J35_29_18 rfl dJ35_next_35 ?_
    obtain ⟨v8, e_v8, hm⟩ := lt_e hm
    refine zQ.nmi e_v8 ?_
    refine zQ.s (fun h => zs_dup_x1 o dJ35_next_38 (by first | rfl | exact zrf_cat _) (by first | rfl | exact zrf_cat _)) ?_
    obtain ⟨g9, hm⟩ := gd_e hm
    obtain ⟨g10, hm⟩ := gd_e hm
    obtain ⟨S11, e_S11, hm⟩ := lt_e hm
    refine zh_putI o g9 g10 fl_J35_23_18 rfl rfl ⟨rfl, rfl⟩ dJ35_next_39 e_S11 ?_
    refine zQ.s (fun h => zs_aload_n (i := 1) o dJ35_next_42 rfl rfl) ?_
    obtain ⟨g12, hm⟩ := gd_e hm
    refine zh_alen o g12 dJ35_next_43 ?_
    obtain ⟨y13, c_y13, hm⟩ := bd_e hm
    refine zh_Si o ml_J35_43 (J_J4_inc G _ _ _ _ _  c_y13) dJ35_next_44 rfl rfl rfl rfl (by omega) (by omega) ?_
    obtain ⟨g14, hm⟩ := gd_e hm
    obtain ⟨g15, hm⟩ := gd_e hm
    obtain ⟨S16, e_S16, hm⟩ := lt_e hm
    refine zh_putI o g14 g15 fl_J35_29_18 rfl rfl ⟨rfl, rfl⟩ dJ35_next_47 e_S16 ?_
    refine zQ.s (fun h => zs_aload_n (i := 0) o dJ35_next_50 rfl rfl) ?_
    refine zQ.s (fun h => zs_dup o dJ35_next_51 (by first | rfl | exact zrf_cat _)) ?_
    obtain ⟨g17, hm⟩ := gd_e hm
    refine zh_getI o g17 fl_J35_19_18 rfl dJ35_next_52 ?_
    refine zQ.s (fun h => zs_iconst (v := 1) o dJ35_next_55 (by decide)) ?_
    refine zQ.s (fun h => zs_isub o dJ35_next_56) ?_
    obtain ⟨g18, hm⟩ := gd_e hm
    obtain ⟨g19, hm⟩ := gd_e hm
    obtain ⟨S20, e_S20, hm⟩ := lt_e hm
    refine zh_putI o g18 g19 fl_J35_19_18 rfl rfl ⟨rfl, rfl⟩ dJ35_next_57 e_S20 ?_
    refine zQ.s (fun h => zs_aload_n (i := 2) o dJ35_next_60 rfl rfl) ?_
    refine zh_retr o f dJ35_next_61 rfl (by omega) (by omega) ((so_e hm).trans hR9.symm)
  · have hm := if_e2 hm c
    exact no_e hm

def j_J4_iterator (h : zH) (p : Nat) : Option (zH × Nat) :=
  lt (zT h + 1) fun r1 =>
  lt (nw h 18 (rl h p) 0) fun S2 =>
  gd (nzr r1) <|
  bd (j_J35_init S2 r1 p) fun y4 =>
  some (y4, r1)

set_option maxHeartbeats 40000000 in
theorem J_J4_iterator (G : zG) (h : zH) (p : Nat) (V : Nat) (h9 : zH) (hm : j_J4_iterator h p = some (h9, V)) : zJr G yJ4_iterator cJ4_iterator 1 (some (.object "java/util/Iterator")) 3 1 4 [zrf p] h V h9 := by
  refine zCo.st [some (zrf p)] rfl rfl (by simp only [zarg_r, zarg_i, zarg_l, zarg_0]; rfl) (fun X o f0 hin hw0 => ?_)
  have f := f0.e
  have hin : (Xt X).name = "iterator" := hin
  refine (?_ : zQ (EH h) G X 0 0 0 [some (zrf p)] []) h rfl hw0
  clear hw0
  generalize hR9 : ((h9, V) : (zH × Nat)) = R at hm
  unfold j_J4_iterator at hm
  obtain ⟨r1, e_r1, hm⟩ := lt_e hm
  obtain ⟨S2, e_S2, hm⟩ := lt_e hm
  refine zh_new (N := 4) o nl_J4_131 rfl dJ4_iterator_0 (by omega) (by omega) e_S2 ?_
  refine zQ.nmr e_r1 ?_
  refine zQ.s (fun h => zs_dup o dJ4_iterator_3 (by first | rfl | exact zrf_cat _)) ?_
  refine zQ.s (fun h => zs_aload_n (i := 0) o dJ4_iterator_4 rfl rfl) ?_
  obtain ⟨g3, hm⟩ := gd_e hm
  obtain ⟨y4, c_y4, hm⟩ := bd_e hm
  refine zh_Iv o g3 ml_J4_133 (J_J35_init G _ _ _ _  c_y4) dJ4_iterator_5 rfl rfl rfl rfl (by omega) (by omega) ?_
  refine zh_retr o f dJ4_iterator_8 rfl (by omega) (by omega) ((so_e hm).trans hR9.symm)

def j_J21_intValue (h : zH) (p : Nat) : Option (zH × Int32) :=
  gd (kd h p 19) <|
  some (h, hI h 19 0 p)

set_option maxHeartbeats 40000000 in
theorem J_J21_intValue (G : zG) (h : zH) (p : Nat) (V : Int32) (h9 : zH) (hm : j_J21_intValue h p = some (h9, V)) : zJi G yJ21_intValue cJ21_intValue 1 (some .int) 0 0 0 [zrf p] h V h9 := by
  refine zCo.st [some (zrf p)] rfl rfl (by simp only [zarg_r, zarg_i, zarg_l, zarg_0]; rfl) (fun X o f0 hin hw0 => ?_)
  have f := f0.e
  have hin : (Xt X).name = "intValue" := hin
  refine (?_ : zQ (EH h) G X 0 0 0 [some (zrf p)] []) h rfl hw0
  clear hw0
  generalize hR9 : ((h9, V) : (zH × Int32)) = R at hm
  unfold j_J21_intValue at hm
  refine zQ.s (fun h => zs_aload_n (i := 0) o dJ21_intValue_0 rfl rfl) ?_
  obtain ⟨g1, hm⟩ := gd_e hm
  refine zh_getI o g1 fl_J21_205_19 rfl dJ21_intValue_1 ?_
  refine zh_reti o f dJ21_intValue_4 rfl (by omega) (by omega) ((so_e hm).trans hR9.symm)

def j_J21_equals_j26 (h : zH) (s0 : Int32) : Option (zH × Int32) :=
  gd (b01 s0) <|
  some (h, s0)
def j_J21_equals (h : zH) (p : Nat) (a1 : Nat) : Option (zH × Int32) :=
  gd (kd h a1 19) <|
  if (1 : Int32) = (0 : Int32) then
    some (h, (0 : Int32))
  else
    gd (kd h p 19) <|
    gd (kd h a1 19) <|
    gd (kd h a1 19) <|
    bd (j_J21_intValue h a1) fun y5 =>
    if (hI h 19 0 p) = y5.2 then
      j_J21_equals_j26 y5.1 (1 : Int32)
    else
      j_J21_equals_j26 y5.1 (0 : Int32)

set_option maxHeartbeats 40000000 in
theorem J_J21_equals (G : zG) (h : zH) (p : Nat) (a1 : Nat) (V : Int32) (h9 : zH) (hm : j_J21_equals h p a1 = some (h9, V)) : zJi G yJ21_equals cJ21_equals 2 (some .boolean) 1 0 0 [zrf p, zrf a1] h V h9 := by
  refine zCo.st [some (zrf p), some (zrf a1)] rfl rfl (by simp only [zarg_r, zarg_i, zarg_l, zarg_0]; rfl) (fun X o f0 hin hw0 => ?_)
  have f := f0.e
  have hin : (Xt X).name = "equals" := hin
  refine (?_ : zQ (EH h) G X 0 0 0 [some (zrf p), some (zrf a1)] []) h rfl hw0
  clear hw0
  generalize hR9 : ((h9, V) : (zH × Int32)) = R at hm
  have hj26 : ∀ (h : zH) (s0 : Int32) (cl sl : Nat), cl + (0) ≤ 0 → sl + (0) ≤ 0 → j_J21_equals_j26 h s0 = some R → zQ (EH h) G X cl sl 26 [none, none] [.int s0] := by
    intro h s0 cl sl hc hs hm
    unfold j_J21_equals_j26 at hm
    obtain ⟨g1, hm⟩ := gd_e hm
    refine zh_reti o f dJ21_equals_26 (b01_e g1).1 (by omega) (by omega) ((so_e hm).trans hR9.symm)
  unfold j_J21_equals at hm
  refine zQ.s (fun h => zs_aload_n (i := 1) o dJ21_equals_0 rfl rfl) ?_
  obtain ⟨g1, hm⟩ := gd_e hm
  refine zh_inst (c := 19) o q664 (by decide) (by decide) g1 dJ21_equals_1 ?_
  refine zQ.b (fun h => zs_if_eq (tgt := 27) o dJ21_equals_4 (by decide)) (fun c => ?_) (fun c => ?_)
  · have hm := if_e1 hm c
    refine zQ.s (fun h => zs_iconst (v := 0) o dJ21_equals_27 (by decide)) ?_
    refine zh_reti o f dJ21_equals_28 rfl (by omega) (by omega) ((so_e hm).trans hR9.symm)
  · have hm := if_e2 hm c
    refine zQ.s (fun h => zs_aload_n (i := 0) o dJ21_equals_7 rfl rfl) ?_
    obtain ⟨g2, hm⟩ := gd_e hm
    refine zh_getI o g2 fl_J21_205_19 rfl dJ21_equals_8 ?_
    refine zQ.s (fun h => zs_aload_n (i := 1) o dJ21_equals_11 rfl rfl) ?_
    obtain ⟨g3, hm⟩ := gd_e hm
    refine zh_cast (c := 19) o q664 (by decide) (by decide) g3 dJ21_equals_12 ?_
    obtain ⟨g4, hm⟩ := gd_e hm
    obtain ⟨y5, c_y5, hm⟩ := bd_e hm
    refine zh_Vi o g4 ml_J21_211 (J_J21_intValue G _ _ _ _  c_y5) dJ21_equals_15 rfl rfl rfl rfl (by omega) (by omega) ?_
    refine zQ.b (fun h => zs_icmp_ne (tgt := 25) o dJ21_equals_18 (by decide)) (fun c => ?_) (fun c => ?_)
    · have hm := if_e2 hm c
      refine zQ.s (fun h => zs_iconst (v := 0) o dJ21_equals_25 (by decide)) ?_
      refine zQ.fg (zl_n (zl_n zl_0)) ?_
      exact hj26 _ _ _ _ (by omega) (by omega) hm
    · have hm := if_e1 hm c
      refine zQ.s (fun h => zs_iconst (v := 1) o dJ21_equals_21 (by decide)) ?_
      refine zQ.s (fun h => zs_goto (tgt := 26) o dJ21_equals_22 (by decide)) ?_
      refine zQ.fg (zl_n (zl_n zl_0)) ?_
      exact hj26 _ _ _ _ (by omega) (by omega) hm

def j_J21_valueOf_j23 (h : zH) (ic : Nat) (x0 : Int32) : Option (zH × Nat) :=
  lt (zT h + 1) fun r1 =>
  lt (nw h 19 7 0) fun S2 =>
  none
def j_J21_valueOf (h : zH) (a1 : Int32) (ic : Nat) : Option (zH × Nat) :=
  if a1 < (-128 : Int32) then
    j_J21_valueOf_j23 h ic a1
  else
    if (127 : Int32) < a1 then
      j_J21_valueOf_j23 h ic a1
    else
      gd (kd h ic 208) <|
      gd (inb (a1 + (128 : Int32)) (zN h ic)) <|
      some (h, hR h 208 (ix (a1 + (128 : Int32))) ic)

set_option maxHeartbeats 40000000 in
theorem J_J21_valueOf (G : zG) (h : zH) (a1 : Int32) (ic : Nat) (V : Nat) (h9 : zH) (z_ih : ("java/lang/Integer$IntegerCache", "high", "I", .int 127) ∈ zGz G) (z_ic : ("java/lang/Integer$IntegerCache", "cache", "[Ljava/lang/Integer;", zrf ic) ∈ zGz G) (hm : j_J21_valueOf h a1 ic = some (h9, V)) : zJr G yJ21_valueOf cJ21_valueOf 1 (some (.object "java/lang/Integer")) 0 1 1 [.int a1] h V h9 := by
  refine zCo.st [some (.int a1)] rfl rfl (by simp only [zarg_r, zarg_i, zarg_l, zarg_0]; rfl) (fun X o f0 hin hw0 => ?_)
  have f := f0.e
  have hin : (Xt X).name = "valueOf" := hin
  refine (?_ : zQ (EH h) G X 0 0 0 [some (.int a1)] []) h rfl hw0
  clear hw0
  generalize hR9 : ((h9, V) : (zH × Nat)) = R at hm
  have hj23 : ∀ (h : zH) (x0 : Int32) (cl sl : Nat), cl + (1) ≤ 1 → sl + (1) ≤ 1 → j_J21_valueOf_j23 h ic x0 = some R → zQ (EH h) G X cl sl 23 [some (.int x0)] [] := by
    intro h x0 cl sl hc hs hm
    unfold j_J21_valueOf_j23 at hm
    obtain ⟨r1, e_r1, hm⟩ := lt_e hm
    obtain ⟨S2, e_S2, hm⟩ := lt_e hm
    refine zh_new (N := 1) o nl_J21_1 rfl dJ21_valueOf_23 (by omega) (by omega) e_S2 ?_
    refine zQ.nmr e_r1 ?_
    refine zQ.s (fun h => zs_dup o dJ21_valueOf_26 (by first | rfl | exact zrf_cat _)) ?_
    refine zQ.s (fun h => zs_iload_n (i := 0) o dJ21_valueOf_27 rfl rfl) ?_
    exact no_e hm
  unfold j_J21_valueOf at hm
  refine zQ.s (fun h => zs_iload_n (i := 0) o dJ21_valueOf_0 rfl rfl) ?_
  refine zQ.s (fun h => zs_bipush (v := -128) o dJ21_valueOf_1 (by decide)) ?_
  refine zQ.b (fun h => zs_icmp_lt (tgt := 23) o dJ21_valueOf_3 (by decide)) (fun c => ?_) (fun c => ?_)
  · have hm := if_e1 hm c
    exact hj23 _ _ _ _ (by omega) (by omega) hm
  · have hm := if_e2 hm c
    refine zQ.s (fun h => zs_iload_n (i := 0) o dJ21_valueOf_6 rfl rfl) ?_
    refine zQ.s (fun h => zs_gets o z_ih q660 dJ21_valueOf_7) ?_
    refine zQ.b (fun h => zs_icmp_gt (tgt := 23) o dJ21_valueOf_10 (by decide)) (fun c => ?_) (fun c => ?_)
    · have hm := if_e1 hm c
      exact hj23 _ _ _ _ (by omega) (by omega) hm
    · have hm := if_e2 hm c
      refine zQ.s (fun h => zs_gets o z_ic q662 dJ21_valueOf_13) ?_
      refine zQ.s (fun h => zs_iload_n (i := 0) o dJ21_valueOf_16 rfl rfl) ?_
      refine zQ.s (fun h => zs_sipush (v := 128) o dJ21_valueOf_17 (by decide)) ?_
      refine zQ.s (fun h => zs_iadd o dJ21_valueOf_20) ?_
      obtain ⟨g1, hm⟩ := gd_e hm
      obtain ⟨g2, hm⟩ := gd_e hm
      refine zh_aald o (Or.inr (Or.inr rfl)) g1 g2 dJ21_valueOf_21 ?_
      refine zh_retr o f dJ21_valueOf_22 rfl (by omega) (by omega) ((so_e hm).trans hR9.symm)

def j_J4_contains_j78 (h : zH) : Option (zH × Int32) :=
  some (h, (0 : Int32))
def j_J4_contains_b35 (k35 : zH → Nat → Nat → Int32 → Int32 → Int32 → Option (zH × Int32)) (h : zH) (x1 : Nat) (x2 : Nat) (x3 : Int32) (x4 : Int32) (x5 : Int32) : Option (zH × Int32) :=
  if x5 ≤ x3 then
    if x5 = x4 then
      j_J4_contains_j78 h
    else
      k35 h x1 x2 (0 : Int32) x4 x4
  else
    gd (kd h x2 205) <|
    gd (inb x3 (zN h x2)) <|
    gd (kd h x1 19) <|
    bd (j_J21_equals h x1 (hR h 205 (ix x3) x2)) fun y4 =>
    if y4.2 = (0 : Int32) then
      k35 y4.1 x1 x2 (x3 + (1 : Int32)) x4 x5
    else
      some (y4.1, (1 : Int32))
def j_J4_contains_l35 : Nat → zH → Nat → Nat → Int32 → Int32 → Int32 → Option (zH × Int32)
  | 0 => fun _ _ _ _ _ _ => none
  | n + 1 => j_J4_contains_b35 (j_J4_contains_l35 n)
def j_J4_contains_j33 (h : zH) (x1 : Nat) (x2 : Nat) (x3 : Int32) (x4 : Int32) (s0 : Int32) : Option (zH × Int32) :=
  j_J4_contains_l35 100 h x1 x2 x3 x4 s0
def j_J4_contains (h : zH) (p : Nat) (a1 : Nat) : Option (zH × Int32) :=
  if a1 = 0 then
    j_J4_contains_j78 h
  else
    gd (kd h p 12) <|
    lt (hR h 12 0 p) fun r2 =>
    gd (kd h p 12) <|
    lt (hI h 12 1 p) fun v4 =>
    gd (kd h p 12) <|
    lt (hI h 12 2 p) fun v6 =>
    if v6 < v4 then
      gd (isA h r2) <|
      j_J4_contains_j33 h a1 r2 v4 v6 (nI (zN h r2))
    else
      j_J4_contains_j33 h a1 r2 v4 v6 v6

set_option maxHeartbeats 40000000 in
theorem J_J4_contains (G : zG) (h : zH) (p : Nat) (a1 : Nat) (V : Int32) (h9 : zH) (hm : j_J4_contains h p a1 = some (h9, V)) : zJi G yJ4_contains cJ4_contains 6 (some .boolean) 2 0 0 [zrf p, zrf a1] h V h9 := by
  refine zCo.st [some (zrf p), some (zrf a1), none, none, none, none] rfl rfl (by simp only [zarg_r, zarg_i, zarg_l, zarg_0]; rfl) (fun X o f0 hin hw0 => ?_)
  have f := f0.e
  have hin : (Xt X).name = "contains" := hin
  refine (?_ : zQ (EH h) G X 0 0 0 [some (zrf p), some (zrf a1), none, none, none, none] []) h rfl hw0
  clear hw0
  generalize hR9 : ((h9, V) : (zH × Int32)) = R at hm
  have hj78 : ∀ (h : zH) (cl sl : Nat), cl + (0) ≤ 0 → sl + (0) ≤ 0 → j_J4_contains_j78 h = some R → zQ (EH h) G X cl sl 78 [none, none, none, none, none, none] [] := by
    intro h cl sl hc hs hm
    unfold j_J4_contains_j78 at hm
    refine zQ.s (fun h => zs_iconst (v := 0) o dJ4_contains_78 (by decide)) ?_
    refine zh_reti o f dJ4_contains_79 rfl (by omega) (by omega) ((so_e hm).trans hR9.symm)
  have hl35 : ∀ (n35 : Nat), n35 ≤ 100 → ∀ (h : zH) (x1 : Nat) (x2 : Nat) (x3 : Int32) (x4 : Int32) (x5 : Int32) (cl sl : Nat), cl + (0) ≤ 0 → sl + (0) ≤ 0 → j_J4_contains_l35 n35 h x1 x2 x3 x4 x5 = some R → zQ (EH h) G X cl sl 35 [none, some (zrf x1), some (zrf x2), some (.int x3), some (.int x4), some (.int x5)] [] := by
    intro n35
    induction n35 with
    | zero => intro _ h x1 x2 x3 x4 x5 cl sl _ _ hm; exact no_e hm
    | succ n35 ih =>
      intro hf35
      have ih35 := ih (by omega)
      intro h x1 x2 x3 x4 x5 cl sl hc hs hm
      have hm : j_J4_contains_b35 (j_J4_contains_l35 n35) h x1 x2 x3 x4 x5 = some R := hm
      unfold j_J4_contains_b35 at hm
      refine zQ.s (fun h => zs_iload_n (i := 3) o dJ4_contains_35 rfl rfl) ?_
      refine zQ.s (fun h => zs_iload (i := 5) o dJ4_contains_36 rfl) ?_
      refine zQ.b (fun h => zs_icmp_ge (tgt := 59) o dJ4_contains_38 (by decide)) (fun c => ?_) (fun c => ?_)
      · have hm := if_e1 hm c
        refine zQ.s (fun h => zs_iload (i := 5) o dJ4_contains_59 rfl) ?_
        refine zQ.s (fun h => zs_iload (i := 4) o dJ4_contains_61 rfl) ?_
        refine zQ.b (fun h => zs_icmp_ne (tgt := 69) o dJ4_contains_63 (by decide)) (fun c => ?_) (fun c => ?_)
        · have hm := if_e2 hm c
          refine zQ.s (fun h => zs_iconst (v := 0) o dJ4_contains_69 (by decide)) ?_
          refine zQ.s (fun h => zs_istore_n (i := 3) o dJ4_contains_70 rfl (by decide) (Or.inr (zc2_ref rfl)) (by simp only [List.set_cons_succ, List.set_cons_zero]; rfl)) ?_
          refine zQ.s (fun h => zs_iload (i := 4) o dJ4_contains_71 rfl) ?_
          refine zQ.s (fun h => zs_istore (i := 5) o dJ4_contains_73 (by decide) (Or.inr rfl) (by simp only [List.set_cons_succ, List.set_cons_zero]; rfl)) ?_
          refine zQ.s (fun h => zs_goto (tgt := 35) o dJ4_contains_75 (by decide)) ?_
          exact ih35 _ _ _ _ _ _ _ _ (by omega) (by omega) hm
        · have hm := if_e1 hm c
          refine zQ.s (fun h => zs_goto (tgt := 78) o dJ4_contains_66 (by decide)) ?_
          refine zQ.fg (zl_n (zl_n (zl_n (zl_n (zl_n (zl_n zl_0)))))) ?_
          exact hj78 _ _ _ (by omega) (by omega) hm
      · have hm := if_e2 hm c
        refine zQ.s (fun h => zs_aload_n (i := 1) o dJ4_contains_41 rfl rfl) ?_
        refine zQ.s (fun h => zs_aload_n (i := 2) o dJ4_contains_42 rfl rfl) ?_
        refine zQ.s (fun h => zs_iload_n (i := 3) o dJ4_contains_43 rfl rfl) ?_
        obtain ⟨g1, hm⟩ := gd_e hm
        obtain ⟨g2, hm⟩ := gd_e hm
        refine zh_aald o (Or.inl rfl) g1 g2 dJ4_contains_44 ?_
        obtain ⟨g3, hm⟩ := gd_e hm
        obtain ⟨y4, c_y4, hm⟩ := bd_e hm
        refine zh_Ui o g3 ml_J4_107_19 (J_J21_equals G _ _ _ _ _  c_y4) dJ4_contains_45 rfl rfl rfl rfl (by omega) (by omega) ?_
        refine zQ.b (fun h => zs_if_eq (tgt := 53) o dJ4_contains_48 (by decide)) (fun c => ?_) (fun c => ?_)
        · have hm := if_e1 hm c
          refine zQ.s (fun h => zs_iinc (i := 3) (v := x3 + (1 : Int32)) o dJ4_contains_53 rfl rfl (by decide) (Or.inr (zc2_ref rfl)) (by simp only [List.set_cons_succ, List.set_cons_zero]; rfl)) ?_
          refine zQ.s (fun h => zs_goto (tgt := 35) o dJ4_contains_56 (by decide)) ?_
          exact ih35 _ _ _ _ _ _ _ _ (by omega) (by omega) hm
        · have hm := if_e2 hm c
          refine zQ.s (fun h => zs_iconst (v := 1) o dJ4_contains_51 (by decide)) ?_
          refine zh_reti o f dJ4_contains_52 rfl (by omega) (by omega) ((so_e hm).trans hR9.symm)
  have hj33 : ∀ (h : zH) (x1 : Nat) (x2 : Nat) (x3 : Int32) (x4 : Int32) (s0 : Int32) (cl sl : Nat), cl + (0) ≤ 0 → sl + (0) ≤ 0 → j_J4_contains_j33 h x1 x2 x3 x4 s0 = some R → zQ (EH h) G X cl sl 33 [none, some (zrf x1), some (zrf x2), some (.int x3), some (.int x4), none] [.int s0] := by
    intro h x1 x2 x3 x4 s0 cl sl hc hs hm
    unfold j_J4_contains_j33 at hm
    refine zQ.s (fun h => zs_istore (i := 5) o dJ4_contains_33 (by decide) (Or.inr rfl) (by simp only [List.set_cons_succ, List.set_cons_zero]; rfl)) ?_
    exact hl35 100 (Nat.le_refl _) _ _ _ _ _ _ _ _ (by omega) (by omega) hm
  unfold j_J4_contains at hm
  refine zQ.s (fun h => zs_aload_n (i := 1) o dJ4_contains_0 rfl rfl) ?_
  refine zQ.b (fun h => zs_ifnull (tgt := 78) o dJ4_contains_1 (by decide)) (fun c => ?_) (fun c => ?_)
  · have hm := if_e1 hm c
    refine zQ.fg (zl_n (zl_n (zl_n (zl_n (zl_n (zl_n zl_0)))))) ?_
    exact hj78 _ _ _ (by omega) (by omega) hm
  · have hm := if_e2 hm c
    refine zQ.s (fun h => zs_aload_n (i := 0) o dJ4_contains_4 rfl rfl) ?_
    obtain ⟨g1, hm⟩ := gd_e hm
    refine zh_getR o g1 fl_J4_3_12 rfl dJ4_contains_5 ?_
    obtain ⟨r2, e_r2, hm⟩ := lt_e hm
    refine zQ.nmr e_r2 ?_
    refine zQ.s (fun h => zs_astore_n (i := 2) o dJ4_contains_8 rfl (by decide) (Or.inr (zc2_ref rfl)) (by simp only [List.set_cons_succ, List.set_cons_zero]; rfl)) ?_
    refine zQ.s (fun h => zs_aload_n (i := 0) o dJ4_contains_9 rfl rfl) ?_
    obtain ⟨g3, hm⟩ := gd_e hm
    refine zh_getI o g3 fl_J4_24_12 rfl dJ4_contains_10 ?_
    obtain ⟨v4, e_v4, hm⟩ := lt_e hm
    refine zQ.nmi e_v4 ?_
    refine zQ.s (fun h => zs_istore_n (i := 3) o dJ4_contains_13 rfl (by decide) (Or.inr (zc2_ref rfl)) (by simp only [List.set_cons_succ, List.set_cons_zero]; rfl)) ?_
    refine zQ.s (fun h => zs_aload_n (i := 0) o dJ4_contains_14 rfl rfl) ?_
    obtain ⟨g5, hm⟩ := gd_e hm
    refine zh_getI o g5 fl_J4_20_12 rfl dJ4_contains_15 ?_
    obtain ⟨v6, e_v6, hm⟩ := lt_e hm
    refine zQ.nmi e_v6 ?_
    refine zQ.s (fun h => zs_istore (i := 4) o dJ4_contains_18 (by decide) (Or.inr rfl) (by simp only [List.set_cons_succ, List.set_cons_zero]; rfl)) ?_
    refine zQ.s (fun h => zs_iload_n (i := 3) o dJ4_contains_20 rfl rfl) ?_
    refine zQ.s (fun h => zs_iload (i := 4) o dJ4_contains_21 rfl) ?_
    refine zQ.b (fun h => zs_icmp_gt (tgt := 31) o dJ4_contains_23 (by decide)) (fun c => ?_) (fun c => ?_)
    · have hm := if_e1 hm c
      refine zQ.s (fun h => zs_aload_n (i := 2) o dJ4_contains_31 rfl rfl) ?_
      obtain ⟨g7, hm⟩ := gd_e hm
      refine zh_alen o g7 dJ4_contains_32 ?_
      refine zQ.fg (zl_n (zl_s (zl_s (zl_s (zl_s (zl_n zl_0)))))) ?_
      exact hj33 _ _ _ _ _ _ _ _ (by omega) (by omega) hm
    · have hm := if_e2 hm c
      refine zQ.s (fun h => zs_iload (i := 4) o dJ4_contains_26 rfl) ?_
      refine zQ.s (fun h => zs_goto (tgt := 33) o dJ4_contains_28 (by decide)) ?_
      refine zQ.fg (zl_n (zl_s (zl_s (zl_s (zl_s (zl_n zl_0)))))) ?_
      exact hj33 _ _ _ _ _ _ _ _ (by omega) (by omega) hm

def j_J18_checkIndex_j9 (h : zH) (x0 : Int32) (x1 : Int32) (x2 : Nat) : Option (zH × Int32) :=
  none
def j_J18_checkIndex (h : zH) (a1 : Int32) (a2 : Int32) (a3 : Nat) : Option (zH × Int32) :=
  if a1 < (0 : Int32) then
    j_J18_checkIndex_j9 h a1 a2 a3
  else
    if a1 < a2 then
      some (h, a1)
    else
      j_J18_checkIndex_j9 h a1 a2 a3

set_option maxHeartbeats 40000000 in
theorem J_J18_checkIndex (G : zG) (h : zH) (a1 : Int32) (a2 : Int32) (a3 : Nat) (V : Int32) (h9 : zH) (hm : j_J18_checkIndex h a1 a2 a3 = some (h9, V)) : zJi G yJ18_checkIndex cJ18_checkIndex 3 (some .int) 0 0 0 [.int a1, .int a2, zrf a3] h V h9 := by
  refine zCo.st [some (.int a1), some (.int a2), some (zrf a3)] rfl rfl (by simp only [zarg_r, zarg_i, zarg_l, zarg_0]; rfl) (fun X o f0 hin hw0 => ?_)
  have f := f0.e
  have hin : (Xt X).name = "checkIndex" := hin
  refine (?_ : zQ (EH h) G X 0 0 0 [some (.int a1), some (.int a2), some (zrf a3)] []) h rfl hw0
  clear hw0
  generalize hR9 : ((h9, V) : (zH × Int32)) = R at hm
  have hj9 : ∀ (h : zH) (x0 : Int32) (x1 : Int32) (x2 : Nat) (cl sl : Nat), cl + (0) ≤ 0 → sl + (0) ≤ 0 → j_J18_checkIndex_j9 h x0 x1 x2 = some R → zQ (EH h) G X cl sl 9 [some (.int x0), some (.int x1), some (zrf x2)] [] := by
    intro h x0 x1 x2 cl sl hc hs hm
    unfold j_J18_checkIndex_j9 at hm
    refine zQ.s (fun h => zs_aload_n (i := 2) o dJ18_checkIndex_9 rfl rfl) ?_
    refine zQ.s (fun h => zs_iload_n (i := 0) o dJ18_checkIndex_10 rfl rfl) ?_
    refine zQ.s (fun h => zs_iload_n (i := 1) o dJ18_checkIndex_11 rfl rfl) ?_
    exact no_e hm
  unfold j_J18_checkIndex at hm
  refine zQ.s (fun h => zs_iload_n (i := 0) o dJ18_checkIndex_0 rfl rfl) ?_
  refine zQ.b (fun h => zs_if_lt (tgt := 9) o dJ18_checkIndex_1 (by decide)) (fun c => ?_) (fun c => ?_)
  · have hm := if_e1 hm c
    exact hj9 _ _ _ _ _ _ (by omega) (by omega) hm
  · have hm := if_e2 hm c
    refine zQ.s (fun h => zs_iload_n (i := 0) o dJ18_checkIndex_4 rfl rfl) ?_
    refine zQ.s (fun h => zs_iload_n (i := 1) o dJ18_checkIndex_5 rfl rfl) ?_
    refine zQ.b (fun h => zs_icmp_lt (tgt := 16) o dJ18_checkIndex_6 (by decide)) (fun c => ?_) (fun c => ?_)
    · have hm := if_e1 hm c
      refine zQ.s (fun h => zs_iload_n (i := 0) o dJ18_checkIndex_16 rfl rfl) ?_
      refine zh_reti o f dJ18_checkIndex_17 rfl (by omega) (by omega) ((so_e hm).trans hR9.symm)
    · have hm := if_e2 hm c
      exact hj9 _ _ _ _ _ _ (by omega) (by omega) hm

def j_J29_checkIndex (h : zH) (a1 : Int32) (a2 : Int32) : Option (zH × Int32) :=
  bd (j_J18_checkIndex h a1 a2 0) fun y1 =>
  some (y1.1, y1.2)

set_option maxHeartbeats 40000000 in
theorem J_J29_checkIndex (G : zG) (h : zH) (a1 : Int32) (a2 : Int32) (V : Int32) (h9 : zH) (hm : j_J29_checkIndex h a1 a2 = some (h9, V)) : zJi G yJ29_checkIndex cJ29_checkIndex 2 (some .int) 1 0 0 [.int a1, .int a2] h V h9 := by
  refine zCo.st [some (.int a1), some (.int a2)] rfl rfl (by simp only [zarg_r, zarg_i, zarg_l, zarg_0]; rfl) (fun X o f0 hin hw0 => ?_)
  have f := f0.e
  have hin : (Xt X).name = "checkIndex" := hin
  refine (?_ : zQ (EH h) G X 0 0 0 [some (.int a1), some (.int a2)] []) h rfl hw0
  clear hw0
  generalize hR9 : ((h9, V) : (zH × Int32)) = R at hm
  unfold j_J29_checkIndex at hm
  refine zQ.s (fun h => zs_iload_n (i := 0) o dJ29_checkIndex_0 rfl rfl) ?_
  refine zQ.s (fun h => zs_iload_n (i := 1) o dJ29_checkIndex_1 rfl rfl) ?_
  refine zQ.s (fun h => zs_nul o dJ29_checkIndex_2) ?_
  obtain ⟨y1, c_y1, hm⟩ := bd_e hm
  refine zh_Si o ml_J29_105 (J_J18_checkIndex G _ _ _ _ _ _  c_y1) dJ29_checkIndex_3 rfl rfl rfl rfl (by omega) (by omega) ?_
  refine zh_reti o f dJ29_checkIndex_6 rfl (by omega) (by omega) ((so_e hm).trans hR9.symm)

def j_J1_initA (h : zH) (p : Nat) : Option zH :=
  gd (nzr p) <|
  bd (j_J0_init h p) fun y2 =>
  gd (kd y2 p 10) <|
  gd (wr y2 p) <|
  lt (pI y2 10 0 p (0 : Int32)) fun S5 =>
  some S5

set_option maxHeartbeats 40000000 in
theorem J_J1_initA (G : zG) (h : zH) (p : Nat) (h9 : zH) (hm : j_J1_initA h p = some h9) : zJv G yJ1_init cJ1_init 1 none 2 0 0 [zrf p] h h9 := by
  refine zCo.st [some (zrf p)] rfl rfl (by simp only [zarg_r, zarg_i, zarg_l, zarg_0]; rfl) (fun X o f0 hin hw0 => ?_)
  have f := f0.e
  have hin : (Xt X).name = "<init>" := hin
  refine (?_ : zQ (EH h) G X 0 0 0 [some (zrf p)] []) h rfl hw0
  clear hw0
  generalize hR9 : (h9 : zH) = R at hm
  unfold j_J1_initA at hm
  refine zQ.s (fun h => zs_aload_n (i := 0) o dJ1_init_0 rfl rfl) ?_
  obtain ⟨g1, hm⟩ := gd_e hm
  obtain ⟨y2, c_y2, hm⟩ := bd_e hm
  refine zh_Iv o g1 ml_J1_1 (J_J0_init G _ _ _  c_y2) dJ1_init_1 rfl rfl rfl rfl (by omega) (by omega) ?_
  refine zQ.s (fun h => zs_aload_n (i := 0) o dJ1_init_4 rfl rfl) ?_
  refine zQ.s (fun h => zs_iconst (v := 0) o dJ1_init_5 (by decide)) ?_
  obtain ⟨g3, hm⟩ := gd_e hm
  obtain ⟨g4, hm⟩ := gd_e hm
  obtain ⟨S5, e_S5, hm⟩ := lt_e hm
  refine zh_putI o g3 g4 fl_J1_7_10 rfl rfl ⟨rfl, rfl⟩ dJ1_init_6 e_S5 ?_
  refine zh_retv o f dJ1_init_9 (by omega) (by omega) ((so_e hm).trans hR9.symm)

def j_J2_init (h : zH) (p : Nat) (e0 : Nat) : Option zH :=
  gd (nzr p) <|
  bd (j_J1_initA h p) fun y2 =>
  gd (kd y2 p 10) <|
  gd (wr y2 p) <|
  lt (pR y2 10 1 p e0) fun S5 =>
  some S5

set_option maxHeartbeats 40000000 in
theorem J_J2_init (G : zG) (h : zH) (p : Nat) (e0 : Nat) (h9 : zH) (z_e0 : ("java/util/ArrayList", "DEFAULTCAPACITY_EMPTY_ELEMENTDATA", "[Ljava/lang/Object;", zrf e0) ∈ zGz G) (hm : j_J2_init h p e0 = some h9) : zJv G yJ2_init cJ2_init 1 none 3 0 0 [zrf p] h h9 := by
  refine zCo.st [some (zrf p)] rfl rfl (by simp only [zarg_r, zarg_i, zarg_l, zarg_0]; rfl) (fun X o f0 hin hw0 => ?_)
  have f := f0.e
  have hin : (Xt X).name = "<init>" := hin
  refine (?_ : zQ (EH h) G X 0 0 0 [some (zrf p)] []) h rfl hw0
  clear hw0
  generalize hR9 : (h9 : zH) = R at hm
  unfold j_J2_init at hm
  refine zQ.s (fun h => zs_aload_n (i := 0) o dJ2_init_0 rfl rfl) ?_
  obtain ⟨g1, hm⟩ := gd_e hm
  obtain ⟨y2, c_y2, hm⟩ := bd_e hm
  refine zh_Iv o g1 ml_J2_1 (J_J1_initA G _ _ _  c_y2) dJ2_init_1 rfl rfl rfl rfl (by omega) (by omega) ?_
  refine zQ.s (fun h => zs_aload_n (i := 0) o dJ2_init_4 rfl rfl) ?_
  refine zQ.s (fun h => zs_gets o z_e0 q177 dJ2_init_5) ?_
  obtain ⟨g3, hm⟩ := gd_e hm
  obtain ⟨g4, hm⟩ := gd_e hm
  obtain ⟨S5, e_S5, hm⟩ := lt_e hm
  refine zh_putR o g3 g4 fl_J2_9_10 rfl rfl dJ2_init_8 e_S5 ?_
  refine zh_retv o f dJ2_init_11 (by omega) (by omega) ((so_e hm).trans hR9.symm)

def j_J2_size (h : zH) (p : Nat) : Option (zH × Int32) :=
  gd (kd h p 10) <|
  some (h, hI h 10 2 p)

set_option maxHeartbeats 40000000 in
theorem J_J2_size (G : zG) (h : zH) (p : Nat) (V : Int32) (h9 : zH) (hm : j_J2_size h p = some (h9, V)) : zJi G yJ2_size cJ2_size 1 (some .int) 0 0 0 [zrf p] h V h9 := by
  refine zCo.st [some (zrf p)] rfl rfl (by simp only [zarg_r, zarg_i, zarg_l, zarg_0]; rfl) (fun X o f0 hin hw0 => ?_)
  have f := f0.e
  have hin : (Xt X).name = "size" := hin
  refine (?_ : zQ (EH h) G X 0 0 0 [some (zrf p)] []) h rfl hw0
  clear hw0
  generalize hR9 : ((h9, V) : (zH × Int32)) = R at hm
  unfold j_J2_size at hm
  refine zQ.s (fun h => zs_aload_n (i := 0) o dJ2_size_0 rfl rfl) ?_
  obtain ⟨g1, hm⟩ := gd_e hm
  refine zh_getI o g1 fl_J2_48_10 rfl dJ2_size_1 ?_
  refine zh_reti o f dJ2_size_4 rfl (by omega) (by omega) ((so_e hm).trans hR9.symm)

def j_J2_elementData (h : zH) (p : Nat) (a1 : Int32) : Option (zH × Nat) :=
  gd (kd h p 10) <|
  gd (kd h (hR h 10 1 p) 205) <|
  gd (inb a1 (zN h (hR h 10 1 p))) <|
  some (h, hR h 205 (ix a1) (hR h 10 1 p))

set_option maxHeartbeats 40000000 in
theorem J_J2_elementData (G : zG) (h : zH) (p : Nat) (a1 : Int32) (V : Nat) (h9 : zH) (hm : j_J2_elementData h p a1 = some (h9, V)) : zJr G yJ2_elementData cJ2_elementData 2 (some (.object "java/lang/Object")) 0 0 0 [zrf p, .int a1] h V h9 := by
  refine zCo.st [some (zrf p), some (.int a1)] rfl rfl (by simp only [zarg_r, zarg_i, zarg_l, zarg_0]; rfl) (fun X o f0 hin hw0 => ?_)
  have f := f0.e
  have hin : (Xt X).name = "elementData" := hin
  refine (?_ : zQ (EH h) G X 0 0 0 [some (zrf p), some (.int a1)] []) h rfl hw0
  clear hw0
  generalize hR9 : ((h9, V) : (zH × Nat)) = R at hm
  unfold j_J2_elementData at hm
  refine zQ.s (fun h => zs_aload_n (i := 0) o dJ2_elementData_0 rfl rfl) ?_
  obtain ⟨g1, hm⟩ := gd_e hm
  refine zh_getR o g1 fl_J2_9_10 rfl dJ2_elementData_1 ?_
  refine zQ.s (fun h => zs_iload_n (i := 1) o dJ2_elementData_4 rfl rfl) ?_
  obtain ⟨g2, hm⟩ := gd_e hm
  obtain ⟨g3, hm⟩ := gd_e hm
  refine zh_aald o (Or.inl rfl) g2 g3 dJ2_elementData_5 ?_
  refine zh_retr o f dJ2_elementData_6 rfl (by omega) (by omega) ((so_e hm).trans hR9.symm)

def j_J2_get (h : zH) (p : Nat) (a1 : Int32) : Option (zH × Nat) :=
  gd (kd h p 10) <|
  bd (j_J29_checkIndex h a1 (hI h 10 2 p)) fun y2 =>
  gd (kd y2.1 p 10) <|
  bd (j_J2_elementData y2.1 p a1) fun y4 =>
  some (y4.1, y4.2)

set_option maxHeartbeats 40000000 in
theorem J_J2_get (G : zG) (h : zH) (p : Nat) (a1 : Int32) (V : Nat) (h9 : zH) (hm : j_J2_get h p a1 = some (h9, V)) : zJr G yJ2_get cJ2_get 2 (some (.object "java/lang/Object")) 2 0 0 [zrf p, .int a1] h V h9 := by
  refine zCo.st [some (zrf p), some (.int a1)] rfl rfl (by simp only [zarg_r, zarg_i, zarg_l, zarg_0]; rfl) (fun X o f0 hin hw0 => ?_)
  have f := f0.e
  have hin : (Xt X).name = "get" := hin
  refine (?_ : zQ (EH h) G X 0 0 0 [some (zrf p), some (.int a1)] []) h rfl hw0
  clear hw0
  generalize hR9 : ((h9, V) : (zH × Nat)) = R at hm
  unfold j_J2_get at hm
  refine zQ.s (fun h => zs_iload_n (i := 1) o dJ2_get_0 rfl rfl) ?_
  refine zQ.s (fun h => zs_aload_n (i := 0) o dJ2_get_1 rfl rfl) ?_
  obtain ⟨g1, hm⟩ := gd_e hm
  refine zh_getI o g1 fl_J2_48_10 rfl dJ2_get_2 ?_
  obtain ⟨y2, c_y2, hm⟩ := bd_e hm
  refine zh_Si o ml_J2_118 (J_J29_checkIndex G _ _ _ _ _  c_y2) dJ2_get_5 rfl rfl rfl rfl (by omega) (by omega) ?_
  refine zQ.s (fun h => zs_pop o dJ2_get_8 (by first | rfl | exact zrf_cat _)) ?_
  refine zQ.s (fun h => zs_aload_n (i := 0) o dJ2_get_9 rfl rfl) ?_
  refine zQ.s (fun h => zs_iload_n (i := 1) o dJ2_get_10 rfl rfl) ?_
  obtain ⟨g3, hm⟩ := gd_e hm
  obtain ⟨y4, c_y4, hm⟩ := bd_e hm
  refine zh_Vr o g3 ml_J2_123 (J_J2_elementData G _ _ _ _ _  c_y4) dJ2_get_11 rfl rfl rfl rfl (by omega) (by omega) ?_
  refine zh_retr o f dJ2_get_14 rfl (by omega) (by omega) ((so_e hm).trans hR9.symm)

def j_J15_newLength_j21 (h : zH) (x0 : Int32) (x1 : Int32) : Option (zH × Int32) :=
  none
def j_J15_newLength (h : zH) (a1 : Int32) (a2 : Int32) (a3 : Int32) : Option (zH × Int32) :=
  lt (imx a2 a3) fun v1 =>
  lt (a1 + v1) fun v2 =>
  if v2 ≤ (0 : Int32) then
    j_J15_newLength_j21 h a1 a2
  else
    if (2147483639 : Int32) < v2 then
      j_J15_newLength_j21 h a1 a2
    else
      some (h, v2)

set_option maxHeartbeats 40000000 in
theorem J_J15_newLength (G : zG) (h : zH) (a1 : Int32) (a2 : Int32) (a3 : Int32) (V : Int32) (h9 : zH) (hm : j_J15_newLength h a1 a2 a3 = some (h9, V)) : zJi G yJ15_newLength cJ15_newLength 4 (some .int) 1 0 0 [.int a1, .int a2, .int a3] h V h9 := by
  refine zCo.st [some (.int a1), some (.int a2), some (.int a3), none] rfl rfl (by simp only [zarg_r, zarg_i, zarg_l, zarg_0]; rfl) (fun X o f0 hin hw0 => ?_)
  have f := f0.e
  have hin : (Xt X).name = "newLength" := hin
  refine (?_ : zQ (EH h) G X 0 0 0 [some (.int a1), some (.int a2), some (.int a3), none] []) h rfl hw0
  clear hw0
  generalize hR9 : ((h9, V) : (zH × Int32)) = R at hm
  have hj21 : ∀ (h : zH) (x0 : Int32) (x1 : Int32) (cl sl : Nat), cl + (0) ≤ 0 → sl + (0) ≤ 0 → j_J15_newLength_j21 h x0 x1 = some R → zQ (EH h) G X cl sl 21 [some (.int x0), some (.int x1), none, none] [] := by
    intro h x0 x1 cl sl hc hs hm
    unfold j_J15_newLength_j21 at hm
    refine zQ.s (fun h => zs_iload_n (i := 0) o dJ15_newLength_21 rfl rfl) ?_
    refine zQ.s (fun h => zs_iload_n (i := 1) o dJ15_newLength_22 rfl rfl) ?_
    exact no_e hm
  unfold j_J15_newLength at hm
  refine zQ.s (fun h => zs_iload_n (i := 0) o dJ15_newLength_0 rfl rfl) ?_
  refine zQ.s (fun h => zs_iload_n (i := 1) o dJ15_newLength_1 rfl rfl) ?_
  refine zQ.s (fun h => zs_iload_n (i := 2) o dJ15_newLength_2 rfl rfl) ?_
  refine zQ.s (fun h => zs_mmax o q402 q403 q127 q404 rfl rfl (by omega) (by omega) dJ15_newLength_3) ?_
  obtain ⟨v1, e_v1, hm⟩ := lt_e hm
  refine zQ.nmi e_v1 ?_
  refine zQ.s (fun h => zs_iadd o dJ15_newLength_6) ?_
  obtain ⟨v2, e_v2, hm⟩ := lt_e hm
  refine zQ.nmi e_v2 ?_
  refine zQ.s (fun h => zs_istore_n (i := 3) o dJ15_newLength_7 rfl (by decide) (Or.inr rfl) (by simp only [List.set_cons_succ, List.set_cons_zero]; rfl)) ?_
  refine zQ.s (fun h => zs_iconst (v := 0) o dJ15_newLength_8 (by decide)) ?_
  refine zQ.s (fun h => zs_iload_n (i := 3) o dJ15_newLength_9 rfl rfl) ?_
  refine zQ.b (fun h => zs_icmp_ge (tgt := 21) o dJ15_newLength_10 (by decide)) (fun c => ?_) (fun c => ?_)
  · have hm := if_e1 hm c
    refine zQ.fg (zl_s (zl_s (zl_n (zl_n zl_0)))) ?_
    exact hj21 _ _ _ _ _ (by omega) (by omega) hm
  · have hm := if_e2 hm c
    refine zQ.s (fun h => zs_iload_n (i := 3) o dJ15_newLength_13 rfl rfl) ?_
    refine zQ.s (fun h => zs_ldc o q405 dJ15_newLength_14) ?_
    refine zQ.b (fun h => zs_icmp_gt (tgt := 21) o dJ15_newLength_16 (by decide)) (fun c => ?_) (fun c => ?_)
    · have hm := if_e1 hm c
      refine zQ.fg (zl_s (zl_s (zl_n (zl_n zl_0)))) ?_
      exact hj21 _ _ _ _ _ (by omega) (by omega) hm
    · have hm := if_e2 hm c
      refine zQ.s (fun h => zs_iload_n (i := 3) o dJ15_newLength_19 rfl rfl) ?_
      refine zh_reti o f dJ15_newLength_20 rfl (by omega) (by omega) ((so_e hm).trans hR9.symm)

def j_J17_copyOf_4_j24 (h : zH) (cm : Nat) (B : Nat) (x0 : Nat) (x1 : Int32) (s0 : Nat) : Option (zH × Nat) :=
  gd (isA h x0) <|
  lt (imn (nI (zN h x0)) x1) fun v2 =>
  gd (kd h x0 205) <|
  gd (kd h s0 205) <|
  gd (wr h s0) <|
  gd (cpk (0 : Int32) v2 (zN h x0)) <|
  gd (cpk (0 : Int32) v2 (zN h s0)) <|
  gd (npq x0 s0) <|
  gd (okc h x0 (ix (0 : Int32) + ix v2)) <|
  lt (cpR h x0 s0 (ix (0 : Int32)) (ix (0 : Int32)) (ix v2)) fun S10 =>
  some (S10, s0)
def j_J17_copyOf_4 (h : zH) (a1 : Nat) (a2 : Int32) (a3 : Nat) (cm : Nat) (B : Nat) : Option (zH × Nat) :=
  if a3 = cm then
    lt (zT h + 1) fun r1 =>
    gd (leB B) <|
    gd (asz a2 B) <|
    lt (nw h 205 (rl h a1) (ix a2)) fun S4 =>
    j_J17_copyOf_4_j24 S4 cm B a1 a2 r1
  else
    none

set_option maxHeartbeats 40000000 in
theorem J_J17_copyOf_4 (G : zG) (h : zH) (a1 : Nat) (a2 : Int32) (a3 : Nat) (cm : Nat) (B : Nat) (V : Nat) (h9 : zH) (z_cm : cm = zGm G + 1) (hm : j_J17_copyOf_4 h a1 a2 a3 cm B = some (h9, V)) : zJr G yJ17_copyOf_4 cJ17_copyOf_4 4 (some (.array (.object "java/lang/Object"))) 1 1 (0 + B) [zrf a1, .int a2, zrf a3] h V h9 := by
  refine zCo.st [some (zrf a1), some (.int a2), some (zrf a3), none] rfl rfl (by simp only [zarg_r, zarg_i, zarg_l, zarg_0]; rfl) (fun X o f0 hin hw0 => ?_)
  have f := f0.e
  have hin : (Xt X).name = "copyOf" := hin
  refine (?_ : zQ (EH h) G X 0 0 0 [some (zrf a1), some (.int a2), some (zrf a3), none] []) h rfl hw0
  clear hw0
  generalize hR9 : ((h9, V) : (zH × Nat)) = R at hm
  have hj24 : ∀ (h : zH) (x0 : Nat) (x1 : Int32) (s0 : Nat) (cl sl : Nat), cl + (0) ≤ 1 → sl + (0) ≤ (0 + B) → j_J17_copyOf_4_j24 h cm B x0 x1 s0 = some R → zQ (EH h) G X cl sl 24 [some (zrf x0), some (.int x1), none, none] [zrf s0] := by
    intro h x0 x1 s0 cl sl hc hs hm
    unfold j_J17_copyOf_4_j24 at hm
    refine zQ.s (fun h => zs_astore_n (i := 3) o dJ17_copyOf_4_24 rfl (by decide) (Or.inr rfl) (by simp only [List.set_cons_succ, List.set_cons_zero]; rfl)) ?_
    refine zQ.s (fun h => zs_aload_n (i := 0) o dJ17_copyOf_4_25 rfl rfl) ?_
    refine zQ.s (fun h => zs_iconst (v := 0) o dJ17_copyOf_4_26 (by decide)) ?_
    refine zQ.s (fun h => zs_aload_n (i := 3) o dJ17_copyOf_4_27 rfl rfl) ?_
    refine zQ.s (fun h => zs_iconst (v := 0) o dJ17_copyOf_4_28 (by decide)) ?_
    refine zQ.s (fun h => zs_aload_n (i := 0) o dJ17_copyOf_4_29 rfl rfl) ?_
    obtain ⟨g1, hm⟩ := gd_e hm
    refine zh_alen o g1 dJ17_copyOf_4_30 ?_
    refine zQ.s (fun h => zs_iload_n (i := 1) o dJ17_copyOf_4_31 rfl rfl) ?_
    refine zQ.s (fun h => zs_mmin o q420 q421 q127 q422 rfl rfl (by omega) (by omega) dJ17_copyOf_4_32) ?_
    obtain ⟨v2, e_v2, hm⟩ := lt_e hm
    refine zQ.nmi e_v2 ?_
    obtain ⟨g3, hm⟩ := gd_e hm
    obtain ⟨g4, hm⟩ := gd_e hm
    obtain ⟨g5, hm⟩ := gd_e hm
    obtain ⟨g6, hm⟩ := gd_e hm
    obtain ⟨g7, hm⟩ := gd_e hm
    obtain ⟨g8, hm⟩ := gd_e hm
    obtain ⟨g9, hm⟩ := gd_e hm
    obtain ⟨S10, e_S10, hm⟩ := lt_e hm
    refine zh_copyR o q423 q425 q424 q129 g3 g4 g5 g6 g7 g8 g9 dJ17_copyOf_4_35 e_S10 rfl rfl ?_
    refine zQ.s (fun h => zs_aload_n (i := 3) o dJ17_copyOf_4_38 rfl rfl) ?_
    refine zh_retr o f dJ17_copyOf_4_39 rfl (by omega) (by omega) ((so_e hm).trans hR9.symm)
  unfold j_J17_copyOf_4 at hm
  refine zQ.s (fun h => zs_aload_n (i := 2) o dJ17_copyOf_4_0 rfl rfl) ?_
  refine zh_ldcM o z_cm q749 dJ17_copyOf_4_1 ?_
  refine zQ.b (fun h => zs_acmp_ne (tgt := 13) o dJ17_copyOf_4_3 (by decide)) (fun c => ?_) (fun c => ?_)
  · have hm := if_e2 hm c
    refine zQ.s (fun h => zs_aload_n (i := 2) o dJ17_copyOf_4_13 rfl rfl) ?_
    exact no_e hm
  · have hm := if_e1 hm c
    refine zQ.s (fun h => zs_iload_n (i := 1) o dJ17_copyOf_4_6 rfl rfl) ?_
    obtain ⟨r1, e_r1, hm⟩ := lt_e hm
    obtain ⟨g2, hm⟩ := gd_e hm
    obtain ⟨g3, hm⟩ := gd_e hm
    have hz_g3 := asz_m g3
    obtain ⟨S4, e_S4, hm⟩ := lt_e hm
    refine zh_newO o q750 (asz_n g3) rfl (Nat.le_trans (asz_m g3) (of_decide_eq_true g2)) dJ17_copyOf_4_7 (by omega) (by omega) e_S4 ?_
    refine zQ.nmr e_r1 ?_
    refine zQ.s (fun h => zs_goto (tgt := 24) o dJ17_copyOf_4_10 (by decide)) ?_
    refine zQ.fg (zl_s (zl_s (zl_n (zl_n zl_0)))) ?_
    exact hj24 _ _ _ _ _ _ (by omega) (by omega) hm

def j_J17_copyOf_3 (h : zH) (a1 : Nat) (a2 : Int32) (cm : Nat) (B : Nat) : Option (zH × Nat) :=
  gd (kd h a1 205) <|
  bd (j_J17_copyOf_4 h a1 a2 cm cm B) fun y2 =>
  some (y2.1, y2.2)

set_option maxHeartbeats 40000000 in
theorem J_J17_copyOf_3 (G : zG) (h : zH) (a1 : Nat) (a2 : Int32) (cm : Nat) (B : Nat) (V : Nat) (h9 : zH) (z_cm : cm = zGm G + 1) (hm : j_J17_copyOf_3 h a1 a2 cm B = some (h9, V)) : zJr G yJ17_copyOf_3 cJ17_copyOf_3 2 (some (.array (.object "java/lang/Object"))) 2 1 (0 + B) [zrf a1, .int a2] h V h9 := by
  refine zCo.st [some (zrf a1), some (.int a2)] rfl rfl (by simp only [zarg_r, zarg_i, zarg_l, zarg_0]; rfl) (fun X o f0 hin hw0 => ?_)
  have f := f0.e
  have hin : (Xt X).name = "copyOf" := hin
  refine (?_ : zQ (EH h) G X 0 0 0 [some (zrf a1), some (.int a2)] []) h rfl hw0
  clear hw0
  generalize hR9 : ((h9, V) : (zH × Nat)) = R at hm
  unfold j_J17_copyOf_3 at hm
  refine zQ.s (fun h => zs_aload_n (i := 0) o dJ17_copyOf_3_0 rfl rfl) ?_
  refine zQ.s (fun h => zs_iload_n (i := 1) o dJ17_copyOf_3_1 rfl rfl) ?_
  refine zQ.s (fun h => zs_aload_n (i := 0) o dJ17_copyOf_3_2 rfl rfl) ?_
  obtain ⟨g1, hm⟩ := gd_e hm
  refine zh_getC o z_cm g1 q713 q3148 q714 q745 dJ17_copyOf_3_3 rfl rfl ?_
  obtain ⟨y2, c_y2, hm⟩ := bd_e hm
  refine zh_Sr o ml_J17_300 (J_J17_copyOf_4 G _ _ _ _ _ _ _ _ z_cm c_y2) dJ17_copyOf_3_6 rfl rfl rfl rfl (by omega) (by omega) ?_
  refine zh_retr o f dJ17_copyOf_3_9 rfl (by omega) (by omega) ((so_e hm).trans hR9.symm)

def j_J2_grow_2_j20 (h : zH) (e0 : Nat) (cm : Nat) (B : Nat) (x0 : Nat) (x1 : Int32) (x2 : Int32) : Option (zH × Nat) :=
  bd (j_J15_newLength h x2 (x1 - x2) (x2 >>> ((1 : Int32) &&& 31))) fun y1 =>
  gd (kd y1.1 x0 10) <|
  bd (j_J17_copyOf_3 y1.1 (hR y1.1 10 1 x0) y1.2 cm B) fun y3 =>
  gd (kd y3.1 x0 10) <|
  gd (wr y3.1 x0) <|
  lt (pR y3.1 10 1 x0 y3.2) fun S6 =>
  some (S6, y3.2)
def j_J2_grow_2 (h : zH) (p : Nat) (a1 : Int32) (e0 : Nat) (cm : Nat) (B : Nat) : Option (zH × Nat) :=
  gd (kd h p 10) <|
  gd (isA h (hR h 10 1 p)) <|
  lt (nI (zN h (hR h 10 1 p))) fun v3 =>
  if (0 : Int32) < v3 then
    j_J2_grow_2_j20 h e0 cm B p a1 v3
  else
    gd (kd h p 10) <|
    if (hR h 10 1 p) = e0 then
      lt (imx (10 : Int32) a1) fun v5 =>
      lt (zT h + 1) fun r6 =>
      gd (asz v5 10) <|
      lt (nw h 205 (rl h p) (ix v5)) fun S8 =>
      gd (kd S8 p 10) <|
      gd (wr S8 p) <|
      lt (pR S8 10 1 p r6) fun S11 =>
      some (S11, r6)
    else
      j_J2_grow_2_j20 h e0 cm B p a1 v3

set_option maxHeartbeats 40000000 in
theorem J_J2_grow_2 (G : zG) (h : zH) (p : Nat) (a1 : Int32) (e0 : Nat) (cm : Nat) (B : Nat) (V : Nat) (h9 : zH) (z_e0 : ("java/util/ArrayList", "DEFAULTCAPACITY_EMPTY_ELEMENTDATA", "[Ljava/lang/Object;", zrf e0) ∈ zGz G) (z_cm : cm = zGm G + 1) (hm : j_J2_grow_2 h p a1 e0 cm B = some (h9, V)) : zJr G yJ2_grow_2 cJ2_grow_2 4 (some (.array (.object "java/lang/Object"))) 3 1 (10 + B) [zrf p, .int a1] h V h9 := by
  refine zCo.st [some (zrf p), some (.int a1), none, none] rfl rfl (by simp only [zarg_r, zarg_i, zarg_l, zarg_0]; rfl) (fun X o f0 hin hw0 => ?_)
  have f := f0.e
  have hin : (Xt X).name = "grow" := hin
  refine (?_ : zQ (EH h) G X 0 0 0 [some (zrf p), some (.int a1), none, none] []) h rfl hw0
  clear hw0
  generalize hR9 : ((h9, V) : (zH × Nat)) = R at hm
  have hj20 : ∀ (h : zH) (x0 : Nat) (x1 : Int32) (x2 : Int32) (cl sl : Nat), cl + (1) ≤ 1 → sl + ((0 + B)) ≤ (10 + B) → j_J2_grow_2_j20 h e0 cm B x0 x1 x2 = some R → zQ (EH h) G X cl sl 20 [some (zrf x0), some (.int x1), some (.int x2), none] [] := by
    intro h x0 x1 x2 cl sl hc hs hm
    unfold j_J2_grow_2_j20 at hm
    refine zQ.s (fun h => zs_iload_n (i := 2) o dJ2_grow_2_20 rfl rfl) ?_
    refine zQ.s (fun h => zs_iload_n (i := 1) o dJ2_grow_2_21 rfl rfl) ?_
    refine zQ.s (fun h => zs_iload_n (i := 2) o dJ2_grow_2_22 rfl rfl) ?_
    refine zQ.s (fun h => zs_isub o dJ2_grow_2_23) ?_
    refine zQ.s (fun h => zs_iload_n (i := 2) o dJ2_grow_2_24 rfl rfl) ?_
    refine zQ.s (fun h => zs_iconst (v := 1) o dJ2_grow_2_25 (by decide)) ?_
    refine zQ.s (fun h => zs_ishr o dJ2_grow_2_26) ?_
    obtain ⟨y1, c_y1, hm⟩ := bd_e hm
    refine zh_Si o ml_J2_73 (J_J15_newLength G _ _ _ _ _ _  c_y1) dJ2_grow_2_27 rfl rfl rfl rfl (by omega) (by omega) ?_
    refine zQ.s (fun h => zs_istore_n (i := 3) o dJ2_grow_2_30 rfl (by decide) (Or.inr rfl) (by simp only [List.set_cons_succ, List.set_cons_zero]; rfl)) ?_
    refine zQ.s (fun h => zs_aload_n (i := 0) o dJ2_grow_2_31 rfl rfl) ?_
    refine zQ.s (fun h => zs_aload_n (i := 0) o dJ2_grow_2_32 rfl rfl) ?_
    obtain ⟨g2, hm⟩ := gd_e hm
    refine zh_getR o g2 fl_J2_9_10 rfl dJ2_grow_2_33 ?_
    refine zQ.s (fun h => zs_iload_n (i := 3) o dJ2_grow_2_36 rfl rfl) ?_
    obtain ⟨y3, c_y3, hm⟩ := bd_e hm
    refine zh_Sr o ml_J2_66 (J_J17_copyOf_3 G _ _ _ _ _ _ _ z_cm c_y3) dJ2_grow_2_37 rfl rfl rfl rfl (by omega) (by omega) ?_
    refine zQ.s (fun h => zs_dup_x1 o dJ2_grow_2_40 (by first | rfl | exact zrf_cat _) (by first | rfl | exact zrf_cat _)) ?_
    obtain ⟨g4, hm⟩ := gd_e hm
    obtain ⟨g5, hm⟩ := gd_e hm
    obtain ⟨S6, e_S6, hm⟩ := lt_e hm
    refine zh_putR o g4 g5 fl_J2_9_10 rfl rfl dJ2_grow_2_41 e_S6 ?_
    refine zh_retr o f dJ2_grow_2_44 rfl (by omega) (by omega) ((so_e hm).trans hR9.symm)
  unfold j_J2_grow_2 at hm
  refine zQ.s (fun h => zs_aload_n (i := 0) o dJ2_grow_2_0 rfl rfl) ?_
  obtain ⟨g1, hm⟩ := gd_e hm
  refine zh_getR o g1 fl_J2_9_10 rfl dJ2_grow_2_1 ?_
  obtain ⟨g2, hm⟩ := gd_e hm
  refine zh_alen o g2 dJ2_grow_2_4 ?_
  obtain ⟨v3, e_v3, hm⟩ := lt_e hm
  refine zQ.nmi e_v3 ?_
  refine zQ.s (fun h => zs_istore_n (i := 2) o dJ2_grow_2_5 rfl (by decide) (Or.inr rfl) (by simp only [List.set_cons_succ, List.set_cons_zero]; rfl)) ?_
  refine zQ.s (fun h => zs_iload_n (i := 2) o dJ2_grow_2_6 rfl rfl) ?_
  refine zQ.b (fun h => zs_if_gt (tgt := 20) o dJ2_grow_2_7 (by decide)) (fun c => ?_) (fun c => ?_)
  · have hm := if_e1 hm c
    exact hj20 _ _ _ _ _ _ (by omega) (by omega) hm
  · have hm := if_e2 hm c
    refine zQ.s (fun h => zs_aload_n (i := 0) o dJ2_grow_2_10 rfl rfl) ?_
    obtain ⟨g4, hm⟩ := gd_e hm
    refine zh_getR o g4 fl_J2_9_10 rfl dJ2_grow_2_11 ?_
    refine zQ.s (fun h => zs_gets o z_e0 q177 dJ2_grow_2_14) ?_
    refine zQ.b (fun h => zs_acmp_eq (tgt := 45) o dJ2_grow_2_17 (by decide)) (fun c => ?_) (fun c => ?_)
    · have hm := if_e1 hm c
      refine zQ.s (fun h => zs_aload_n (i := 0) o dJ2_grow_2_45 rfl rfl) ?_
      refine zQ.s (fun h => zs_bipush (v := 10) o dJ2_grow_2_46 (by decide)) ?_
      refine zQ.s (fun h => zs_iload_n (i := 1) o dJ2_grow_2_48 rfl rfl) ?_
      refine zQ.s (fun h => zs_mmax o q1558 q403 q127 q404 rfl rfl (by omega) (by omega) dJ2_grow_2_49) ?_
      obtain ⟨v5, e_v5, hm⟩ := lt_e hm
      refine zQ.nmi e_v5 ?_
      obtain ⟨r6, e_r6, hm⟩ := lt_e hm
      obtain ⟨g7, hm⟩ := gd_e hm
      have hz_g7 := asz_m g7
      obtain ⟨S8, e_S8, hm⟩ := lt_e hm
      refine zh_newO o q1559 (asz_n g7) rfl (Nat.le_trans (asz_m g7) (by decide)) dJ2_grow_2_52 (by omega) (by omega) e_S8 ?_
      refine zQ.nmr e_r6 ?_
      refine zQ.s (fun h => zs_dup_x1 o dJ2_grow_2_55 (by first | rfl | exact zrf_cat _) (by first | rfl | exact zrf_cat _)) ?_
      obtain ⟨g9, hm⟩ := gd_e hm
      obtain ⟨g10, hm⟩ := gd_e hm
      obtain ⟨S11, e_S11, hm⟩ := lt_e hm
      refine zh_putR o g9 g10 fl_J2_9_10 rfl rfl dJ2_grow_2_56 e_S11 ?_
      refine zh_retr o f dJ2_grow_2_59 rfl (by omega) (by omega) ((so_e hm).trans hR9.symm)
    · have hm := if_e2 hm c
      exact hj20 _ _ _ _ _ _ (by omega) (by omega) hm

def j_J2_grow (h : zH) (p : Nat) (e0 : Nat) (cm : Nat) (B : Nat) : Option (zH × Nat) :=
  gd (kd h p 10) <|
  gd (kd h p 10) <|
  bd (j_J2_grow_2 h p ((hI h 10 2 p) + (1 : Int32)) e0 cm B) fun y3 =>
  some (y3.1, y3.2)

set_option maxHeartbeats 40000000 in
theorem J_J2_grow (G : zG) (h : zH) (p : Nat) (e0 : Nat) (cm : Nat) (B : Nat) (V : Nat) (h9 : zH) (z_e0 : ("java/util/ArrayList", "DEFAULTCAPACITY_EMPTY_ELEMENTDATA", "[Ljava/lang/Object;", zrf e0) ∈ zGz G) (z_cm : cm = zGm G + 1) (hm : j_J2_grow h p e0 cm B = some (h9, V)) : zJr G yJ2_grow cJ2_grow 1 (some (.array (.object "java/lang/Object"))) 4 1 (10 + B) [zrf p] h V h9 := by
  refine zCo.st [some (zrf p)] rfl rfl (by simp only [zarg_r, zarg_i, zarg_l, zarg_0]; rfl) (fun X o f0 hin hw0 => ?_)
  have f := f0.e
  have hin : (Xt X).name = "grow" := hin
  refine (?_ : zQ (EH h) G X 0 0 0 [some (zrf p)] []) h rfl hw0
  clear hw0
  generalize hR9 : ((h9, V) : (zH × Nat)) = R at hm
  unfold j_J2_grow at hm
  refine zQ.s (fun h => zs_aload_n (i := 0) o dJ2_grow_0 rfl rfl) ?_
  refine zQ.s (fun h => zs_aload_n (i := 0) o dJ2_grow_1 rfl rfl) ?_
  obtain ⟨g1, hm⟩ := gd_e hm
  refine zh_getI o g1 fl_J2_48_10 rfl dJ2_grow_2 ?_
  refine zQ.s (fun h => zs_iconst (v := 1) o dJ2_grow_5 (by decide)) ?_
  refine zQ.s (fun h => zs_iadd o dJ2_grow_6) ?_
  obtain ⟨g2, hm⟩ := gd_e hm
  obtain ⟨y3, c_y3, hm⟩ := bd_e hm
  refine zh_Vr o g2 ml_J2_69 (J_J2_grow_2 G _ _ _ _ _ _ _ _ z_e0 z_cm c_y3) dJ2_grow_7 rfl rfl rfl rfl (by omega) (by omega) ?_
  refine zh_retr o f dJ2_grow_10 rfl (by omega) (by omega) ((so_e hm).trans hR9.symm)

def j_J2_add_2_j11 (h : zH) (e0 : Nat) (cm : Nat) (B : Nat) (x0 : Nat) (x1 : Nat) (x2 : Nat) (x3 : Int32) : Option zH :=
  gd (kd h x2 205) <|
  gd (wr h x2) <|
  gd (inb x3 (zN h x2)) <|
  gd (oka h x1) <|
  lt (pR h 205 (ix x3) x2 x1) fun S5 =>
  gd (kd S5 x0 10) <|
  gd (wr S5 x0) <|
  lt (pI S5 10 2 x0 (x3 + (1 : Int32))) fun S8 =>
  some S8
def j_J2_add_2 (h : zH) (p : Nat) (a1 : Nat) (a2 : Nat) (a3 : Int32) (e0 : Nat) (cm : Nat) (B : Nat) : Option zH :=
  gd (isA h a2) <|
  if a3 = (nI (zN h a2)) then
    gd (kd h p 10) <|
    bd (j_J2_grow h p e0 cm B) fun y3 =>
    j_J2_add_2_j11 y3.1 e0 cm B p a1 y3.2 a3
  else
    j_J2_add_2_j11 h e0 cm B p a1 a2 a3

set_option maxHeartbeats 40000000 in
theorem J_J2_add_2 (G : zG) (h : zH) (p : Nat) (a1 : Nat) (a2 : Nat) (a3 : Int32) (e0 : Nat) (cm : Nat) (B : Nat) (h9 : zH) (z_e0 : ("java/util/ArrayList", "DEFAULTCAPACITY_EMPTY_ELEMENTDATA", "[Ljava/lang/Object;", zrf e0) ∈ zGz G) (z_cm : cm = zGm G + 1) (hm : j_J2_add_2 h p a1 a2 a3 e0 cm B = some h9) : zJv G yJ2_add_2 cJ2_add_2 4 none 5 1 (10 + B) [zrf p, zrf a1, zrf a2, .int a3] h h9 := by
  refine zCo.st [some (zrf p), some (zrf a1), some (zrf a2), some (.int a3)] rfl rfl (by simp only [zarg_r, zarg_i, zarg_l, zarg_0]; rfl) (fun X o f0 hin hw0 => ?_)
  have f := f0.e
  have hin : (Xt X).name = "add" := hin
  refine (?_ : zQ (EH h) G X 0 0 0 [some (zrf p), some (zrf a1), some (zrf a2), some (.int a3)] []) h rfl hw0
  clear hw0
  generalize hR9 : (h9 : zH) = R at hm
  have hj11 : ∀ (h : zH) (x0 : Nat) (x1 : Nat) (x2 : Nat) (x3 : Int32) (cl sl : Nat), cl + (0) ≤ 1 → sl + (0) ≤ (10 + B) → j_J2_add_2_j11 h e0 cm B x0 x1 x2 x3 = some R → zQ (EH h) G X cl sl 11 [some (zrf x0), some (zrf x1), some (zrf x2), some (.int x3)] [] := by
    intro h x0 x1 x2 x3 cl sl hc hs hm
    unfold j_J2_add_2_j11 at hm
    refine zQ.s (fun h => zs_aload_n (i := 2) o dJ2_add_2_11 rfl rfl) ?_
    refine zQ.s (fun h => zs_iload_n (i := 3) o dJ2_add_2_12 rfl rfl) ?_
    refine zQ.s (fun h => zs_aload_n (i := 1) o dJ2_add_2_13 rfl rfl) ?_
    obtain ⟨g1, hm⟩ := gd_e hm
    obtain ⟨g2, hm⟩ := gd_e hm
    obtain ⟨g3, hm⟩ := gd_e hm
    obtain ⟨g4, hm⟩ := gd_e hm
    obtain ⟨S5, e_S5, hm⟩ := lt_e hm
    refine zh_aast o g1 g2 g3 g4 dJ2_add_2_14 e_S5 ?_
    refine zQ.s (fun h => zs_aload_n (i := 0) o dJ2_add_2_15 rfl rfl) ?_
    refine zQ.s (fun h => zs_iload_n (i := 3) o dJ2_add_2_16 rfl rfl) ?_
    refine zQ.s (fun h => zs_iconst (v := 1) o dJ2_add_2_17 (by decide)) ?_
    refine zQ.s (fun h => zs_iadd o dJ2_add_2_18) ?_
    obtain ⟨g6, hm⟩ := gd_e hm
    obtain ⟨g7, hm⟩ := gd_e hm
    obtain ⟨S8, e_S8, hm⟩ := lt_e hm
    refine zh_putI o g6 g7 fl_J2_48_10 rfl rfl ⟨rfl, rfl⟩ dJ2_add_2_19 e_S8 ?_
    refine zh_retv o f dJ2_add_2_22 (by omega) (by omega) ((so_e hm).trans hR9.symm)
  unfold j_J2_add_2 at hm
  refine zQ.s (fun h => zs_iload_n (i := 3) o dJ2_add_2_0 rfl rfl) ?_
  refine zQ.s (fun h => zs_aload_n (i := 2) o dJ2_add_2_1 rfl rfl) ?_
  obtain ⟨g1, hm⟩ := gd_e hm
  refine zh_alen o g1 dJ2_add_2_2 ?_
  refine zQ.b (fun h => zs_icmp_ne (tgt := 11) o dJ2_add_2_3 (by decide)) (fun c => ?_) (fun c => ?_)
  · have hm := if_e2 hm c
    exact hj11 _ _ _ _ _ _ _ (by omega) (by omega) hm
  · have hm := if_e1 hm c
    refine zQ.s (fun h => zs_aload_n (i := 0) o dJ2_add_2_6 rfl rfl) ?_
    obtain ⟨g2, hm⟩ := gd_e hm
    obtain ⟨y3, c_y3, hm⟩ := bd_e hm
    refine zh_Vr o g2 ml_J2_129 (J_J2_grow G _ _ _ _ _ _ _ z_e0 z_cm c_y3) dJ2_add_2_7 rfl rfl rfl rfl (by omega) (by omega) ?_
    refine zQ.s (fun h => zs_astore_n (i := 2) o dJ2_add_2_10 rfl (by decide) (Or.inr (zc2_ref rfl)) (by simp only [List.set_cons_succ, List.set_cons_zero]; rfl)) ?_
    exact hj11 _ _ _ _ _ _ _ (by omega) (by omega) hm

def j_J2_add (h : zH) (p : Nat) (a1 : Nat) (e0 : Nat) (cm : Nat) (B : Nat) : Option (zH × Int32) :=
  gd (kd h p 10) <|
  gd (kd h p 10) <|
  gd (wr h p) <|
  lt (pI h 10 0 p ((hI h 10 0 p) + (1 : Int32))) fun S4 =>
  gd (kd S4 p 10) <|
  gd (kd S4 p 10) <|
  gd (kd S4 p 10) <|
  bd (j_J2_add_2 S4 p a1 (hR S4 10 1 p) (hI S4 10 2 p) e0 cm B) fun y8 =>
  some (y8, (1 : Int32))

set_option maxHeartbeats 40000000 in
theorem J_J2_add (G : zG) (h : zH) (p : Nat) (a1 : Nat) (e0 : Nat) (cm : Nat) (B : Nat) (V : Int32) (h9 : zH) (z_e0 : ("java/util/ArrayList", "DEFAULTCAPACITY_EMPTY_ELEMENTDATA", "[Ljava/lang/Object;", zrf e0) ∈ zGz G) (z_cm : cm = zGm G + 1) (hm : j_J2_add h p a1 e0 cm B = some (h9, V)) : zJi G yJ2_add cJ2_add 2 (some .boolean) 6 1 (10 + B) [zrf p, zrf a1] h V h9 := by
  refine zCo.st [some (zrf p), some (zrf a1)] rfl rfl (by simp only [zarg_r, zarg_i, zarg_l, zarg_0]; rfl) (fun X o f0 hin hw0 => ?_)
  have f := f0.e
  have hin : (Xt X).name = "add" := hin
  refine (?_ : zQ (EH h) G X 0 0 0 [some (zrf p), some (zrf a1)] []) h rfl hw0
  clear hw0
  generalize hR9 : ((h9, V) : (zH × Int32)) = R at hm
  unfold j_J2_add at hm
  refine zQ.s (fun h => zs_aload_n (i := 0) o dJ2_add_0 rfl rfl) ?_
  refine zQ.s (fun h => zs_dup o dJ2_add_1 (by first | rfl | exact zrf_cat _)) ?_
  obtain ⟨g1, hm⟩ := gd_e hm
  refine zh_getI o g1 fl_J2_63_10 rfl dJ2_add_2 ?_
  refine zQ.s (fun h => zs_iconst (v := 1) o dJ2_add_5 (by decide)) ?_
  refine zQ.s (fun h => zs_iadd o dJ2_add_6) ?_
  obtain ⟨g2, hm⟩ := gd_e hm
  obtain ⟨g3, hm⟩ := gd_e hm
  obtain ⟨S4, e_S4, hm⟩ := lt_e hm
  refine zh_putI o g2 g3 fl_J2_63_10 rfl rfl ⟨rfl, rfl⟩ dJ2_add_7 e_S4 ?_
  refine zQ.s (fun h => zs_aload_n (i := 0) o dJ2_add_10 rfl rfl) ?_
  refine zQ.s (fun h => zs_aload_n (i := 1) o dJ2_add_11 rfl rfl) ?_
  refine zQ.s (fun h => zs_aload_n (i := 0) o dJ2_add_12 rfl rfl) ?_
  obtain ⟨g5, hm⟩ := gd_e hm
  refine zh_getR o g5 fl_J2_9_10 rfl dJ2_add_13 ?_
  refine zQ.s (fun h => zs_aload_n (i := 0) o dJ2_add_16 rfl rfl) ?_
  obtain ⟨g6, hm⟩ := gd_e hm
  refine zh_getI o g6 fl_J2_48_10 rfl dJ2_add_17 ?_
  obtain ⟨g7, hm⟩ := gd_e hm
  obtain ⟨y8, c_y8, hm⟩ := bd_e hm
  refine zh_Vv o g7 ml_J2_131 (J_J2_add_2 G _ _ _ _ _ _ _ _ _ z_e0 z_cm c_y8) dJ2_add_20 rfl rfl rfl rfl (by omega) (by omega) ?_
  refine zQ.s (fun h => zs_iconst (v := 1) o dJ2_add_23 (by decide)) ?_
  refine zh_reti o f dJ2_add_24 rfl (by omega) (by omega) ((so_e hm).trans hR9.symm)

def j_J26_init (h : zH) (p : Nat) (a1 : Nat) : Option zH :=
  gd (kd h p 15) <|
  gd (wr h p) <|
  lt (pR h 15 3 p a1) fun S3 =>
  gd (nzr p) <|
  gd (kd S3 p 15) <|
  gd (wr S3 p) <|
  lt (pI S3 15 1 p (-1 : Int32)) fun S7 =>
  gd (kd S7 p 15) <|
  gd (kd S7 (hR S7 15 3 p) 10) <|
  gd (kd S7 p 15) <|
  gd (wr S7 p) <|
  lt (pI S7 15 2 p (hI S7 10 0 (hR S7 15 3 p))) fun S12 =>
  some S12

set_option maxHeartbeats 40000000 in
theorem J_J26_init (G : zG) (h : zH) (p : Nat) (a1 : Nat) (h9 : zH) (hm : j_J26_init h p a1 = some h9) : zJv G yJ26_init cJ26_init 2 none 1 0 0 [zrf p, zrf a1] h h9 := by
  refine zCo.st [some (zrf p), some (zrf a1)] rfl rfl (by simp only [zarg_r, zarg_i, zarg_l, zarg_0]; rfl) (fun X o f0 hin hw0 => ?_)
  have f := f0.e
  have hin : (Xt X).name = "<init>" := hin
  refine (?_ : zQ (EH h) G X 0 0 0 [some (zrf p), some (zrf a1)] []) h rfl hw0
  clear hw0
  generalize hR9 : (h9 : zH) = R at hm
  unfold j_J26_init at hm
  refine zQ.s (fun h => zs_aload_n (i := 0) o dJ26_init_0 rfl rfl) ?_
  refine zQ.s (fun h => zs_aload_n (i := 1) o dJ26_init_1 rfl rfl) ?_
  obtain ⟨g1, hm⟩ := gd_e hm
  obtain ⟨g2, hm⟩ := gd_e hm
  obtain ⟨S3, e_S3, hm⟩ := lt_e hm
  refine zh_putRF o hin g1 g2 fl_J26_1_15 rfl ⟨rfl, rfl⟩ dJ26_init_2 e_S3 ?_
  refine zQ.s (fun h => zs_aload_n (i := 0) o dJ26_init_5 rfl rfl) ?_
  obtain ⟨g4, hm⟩ := gd_e hm
  refine zh_objInit o g4 q1006 q163 q164 dJ26_init_6 rfl rfl ?_
  refine zQ.s (fun h => zs_aload_n (i := 0) o dJ26_init_9 rfl rfl) ?_
  refine zQ.s (fun h => zs_iconst (v := -1) o dJ26_init_10 (by decide)) ?_
  obtain ⟨g5, hm⟩ := gd_e hm
  obtain ⟨g6, hm⟩ := gd_e hm
  obtain ⟨S7, e_S7, hm⟩ := lt_e hm
  refine zh_putI o g5 g6 fl_J26_13_15 rfl rfl ⟨rfl, rfl⟩ dJ26_init_11 e_S7 ?_
  refine zQ.s (fun h => zs_aload_n (i := 0) o dJ26_init_14 rfl rfl) ?_
  refine zQ.s (fun h => zs_aload_n (i := 0) o dJ26_init_15 rfl rfl) ?_
  obtain ⟨g8, hm⟩ := gd_e hm
  refine zh_getR o g8 fl_J26_1_15 rfl dJ26_init_16 ?_
  obtain ⟨g9, hm⟩ := gd_e hm
  refine zh_getI o g9 fl_J26_17_10 rfl dJ26_init_19 ?_
  obtain ⟨g10, hm⟩ := gd_e hm
  obtain ⟨g11, hm⟩ := gd_e hm
  obtain ⟨S12, e_S12, hm⟩ := lt_e hm
  refine zh_putI o g10 g11 fl_J26_22_15 rfl rfl ⟨rfl, rfl⟩ dJ26_init_22 e_S12 ?_
  refine zh_retv o f dJ26_init_25 (by omega) (by omega) ((so_e hm).trans hR9.symm)

def j_J26_hasNext_j19 (h : zH) (s0 : Int32) : Option (zH × Int32) :=
  gd (b01 s0) <|
  some (h, s0)
def j_J26_hasNext (h : zH) (p : Nat) : Option (zH × Int32) :=
  gd (kd h p 15) <|
  gd (kd h p 15) <|
  gd (kd h (hR h 15 3 p) 10) <|
  if (hI h 15 0 p) = (hI h 10 2 (hR h 15 3 p)) then
    j_J26_hasNext_j19 h (0 : Int32)
  else
    j_J26_hasNext_j19 h (1 : Int32)

set_option maxHeartbeats 40000000 in
theorem J_J26_hasNext (G : zG) (h : zH) (p : Nat) (V : Int32) (h9 : zH) (hm : j_J26_hasNext h p = some (h9, V)) : zJi G yJ26_hasNext cJ26_hasNext 1 (some .boolean) 0 0 0 [zrf p] h V h9 := by
  refine zCo.st [some (zrf p)] rfl rfl (by simp only [zarg_r, zarg_i, zarg_l, zarg_0]; rfl) (fun X o f0 hin hw0 => ?_)
  have f := f0.e
  have hin : (Xt X).name = "hasNext" := hin
  refine (?_ : zQ (EH h) G X 0 0 0 [some (zrf p)] []) h rfl hw0
  clear hw0
  generalize hR9 : ((h9, V) : (zH × Int32)) = R at hm
  have hj19 : ∀ (h : zH) (s0 : Int32) (cl sl : Nat), cl + (0) ≤ 0 → sl + (0) ≤ 0 → j_J26_hasNext_j19 h s0 = some R → zQ (EH h) G X cl sl 19 [none] [.int s0] := by
    intro h s0 cl sl hc hs hm
    unfold j_J26_hasNext_j19 at hm
    obtain ⟨g1, hm⟩ := gd_e hm
    refine zh_reti o f dJ26_hasNext_19 (b01_e g1).1 (by omega) (by omega) ((so_e hm).trans hR9.symm)
  unfold j_J26_hasNext at hm
  refine zQ.s (fun h => zs_aload_n (i := 0) o dJ26_hasNext_0 rfl rfl) ?_
  obtain ⟨g1, hm⟩ := gd_e hm
  refine zh_getI o g1 fl_J26_25_15 rfl dJ26_hasNext_1 ?_
  refine zQ.s (fun h => zs_aload_n (i := 0) o dJ26_hasNext_4 rfl rfl) ?_
  obtain ⟨g2, hm⟩ := gd_e hm
  refine zh_getR o g2 fl_J26_1_15 rfl dJ26_hasNext_5 ?_
  obtain ⟨g3, hm⟩ := gd_e hm
  refine zh_getI o g3 fl_J26_28_10 rfl dJ26_hasNext_8 ?_
  refine zQ.b (fun h => zs_icmp_eq (tgt := 18) o dJ26_hasNext_11 (by decide)) (fun c => ?_) (fun c => ?_)
  · have hm := if_e1 hm c
    refine zQ.s (fun h => zs_iconst (v := 0) o dJ26_hasNext_18 (by decide)) ?_
    refine zQ.fg (zl_n zl_0) ?_
    exact hj19 _ _ _ _ (by omega) (by omega) hm
  · have hm := if_e2 hm c
    refine zQ.s (fun h => zs_iconst (v := 1) o dJ26_hasNext_14 (by decide)) ?_
    refine zQ.s (fun h => zs_goto (tgt := 19) o dJ26_hasNext_15 (by decide)) ?_
    refine zQ.fg (zl_n zl_0) ?_
    exact hj19 _ _ _ _ (by omega) (by omega) hm

def j_J26_checkForComodification (h : zH) (p : Nat) : Option zH :=
  gd (kd h p 15) <|
  gd (kd h (hR h 15 3 p) 10) <|
  gd (kd h p 15) <|
  if (hI h 10 0 (hR h 15 3 p)) = (hI h 15 2 p) then
    some h
  else
    none

set_option maxHeartbeats 40000000 in
theorem J_J26_checkForComodification (G : zG) (h : zH) (p : Nat) (h9 : zH) (hm : j_J26_checkForComodification h p = some h9) : zJv G yJ26_checkForComodification cJ26_checkForComodification 1 none 0 0 0 [zrf p] h h9 := by
  refine zCo.st [some (zrf p)] rfl rfl (by simp only [zarg_r, zarg_i, zarg_l, zarg_0]; rfl) (fun X o f0 hin hw0 => ?_)
  have f := f0.e
  have hin : (Xt X).name = "checkForComodification" := hin
  refine (?_ : zQ (EH h) G X 0 0 0 [some (zrf p)] []) h rfl hw0
  clear hw0
  generalize hR9 : (h9 : zH) = R at hm
  unfold j_J26_checkForComodification at hm
  refine zQ.s (fun h => zs_aload_n (i := 0) o dJ26_checkForComodification_0 rfl rfl) ?_
  obtain ⟨g1, hm⟩ := gd_e hm
  refine zh_getR o g1 fl_J26_1_15 rfl dJ26_checkForComodification_1 ?_
  obtain ⟨g2, hm⟩ := gd_e hm
  refine zh_getI o g2 fl_J26_17_10 rfl dJ26_checkForComodification_4 ?_
  refine zQ.s (fun h => zs_aload_n (i := 0) o dJ26_checkForComodification_7 rfl rfl) ?_
  obtain ⟨g3, hm⟩ := gd_e hm
  refine zh_getI o g3 fl_J26_22_15 rfl dJ26_checkForComodification_8 ?_
  refine zQ.b (fun h => zs_icmp_eq (tgt := 22) o dJ26_checkForComodification_11 (by decide)) (fun c => ?_) (fun c => ?_)
  · have hm := if_e1 hm c
    refine zh_retv o f dJ26_checkForComodification_22 (by omega) (by omega) ((so_e hm).trans hR9.symm)
  · have hm := if_e2 hm c
    exact no_e hm

def j_J26_next (h : zH) (p : Nat) : Option (zH × Nat) :=
  gd (kd h p 15) <|
  bd (j_J26_checkForComodification h p) fun y2 =>
  gd (kd y2 p 15) <|
  lt (hI y2 15 0 p) fun v4 =>
  gd (kd y2 p 15) <|
  gd (kd y2 (hR y2 15 3 p) 10) <|
  if v4 < (hI y2 10 2 (hR y2 15 3 p)) then
    gd (kd y2 p 15) <|
    gd (kd y2 (hR y2 15 3 p) 10) <|
    lt (hR y2 10 1 (hR y2 15 3 p)) fun r9 =>
    gd (isA y2 r9) <|
    if v4 < (nI (zN y2 r9)) then
      gd (kd y2 p 15) <|
      gd (wr y2 p) <|
      lt (pI y2 15 0 p (v4 + (1 : Int32))) fun S13 =>
      gd (kd S13 p 15) <|
      gd (wr S13 p) <|
      lt (pI S13 15 1 p v4) fun S16 =>
      gd (kd S16 r9 205) <|
      gd (inb v4 (zN S16 r9)) <|
      some (S16, hR S16 205 (ix v4) r9)
    else
      none
  else
    none

set_option maxHeartbeats 40000000 in
theorem J_J26_next (G : zG) (h : zH) (p : Nat) (V : Nat) (h9 : zH) (hm : j_J26_next h p = some (h9, V)) : zJr G yJ26_next cJ26_next 3 (some (.object "java/lang/Object")) 1 0 0 [zrf p] h V h9 := by
  refine zCo.st [some (zrf p), none, none] rfl rfl (by simp only [zarg_r, zarg_i, zarg_l, zarg_0]; rfl) (fun X o f0 hin hw0 => ?_)
  have f := f0.e
  have hin : (Xt X).name = "next" := hin
  refine (?_ : zQ (EH h) G X 0 0 0 [some (zrf p), none, none] []) h rfl hw0
  clear hw0
  generalize hR9 : ((h9, V) : (zH × Nat)) = R at hm
  unfold j_J26_next at hm
  refine zQ.s (fun h => zs_aload_n (i := 0) o dJ26_next_0 rfl rfl) ?_
  obtain ⟨g1, hm⟩ := gd_e hm
  obtain ⟨y2, c_y2, hm⟩ := bd_e hm
  refine zh_Vv o g1 ml_J26_31 (J_J26_checkForComodification G _ _ _  c_y2) dJ26_next_1 rfl rfl rfl rfl (by omega) (by omega) ?_
  refine zQ.s (fun h => zs_aload_n (i := 0) o dJ26_next_4 rfl rfl) ?_
  obtain ⟨g3, hm⟩ := gd_e hm
  refine zh_getI o g3 fl_J26_25_15 rfl dJ26_next_5 ?_
  obtain ⟨v4, e_v4, hm⟩ := lt_e hm
  refine zQ.nmi e_v4 ?_
  refine zQ.s (fun h => zs_istore_n (i := 1) o dJ26_next_8 rfl (by decide) (Or.inr (zc2_ref rfl)) (by simp only [List.set_cons_succ, List.set_cons_zero]; rfl)) ?_
  refine zQ.s (fun h => zs_iload_n (i := 1) o dJ26_next_9 rfl rfl) ?_
  refine zQ.s (fun h => zs_aload_n (i := 0) o dJ26_next_10 rfl rfl) ?_
  obtain ⟨g5, hm⟩ := gd_e hm
  refine zh_getR o g5 fl_J26_1_15 rfl dJ26_next_11 ?_
  obtain ⟨g6, hm⟩ := gd_e hm
  refine zh_getI o g6 fl_J26_28_10 rfl dJ26_next_14 ?_
  refine zQ.b (fun h => zs_icmp_lt (tgt := 28) o dJ26_next_17 (by decide)) (fun c => ?_) (fun c => ?_)
  · have hm := if_e1 hm c
    refine zQ.s (fun h => zs_aload_n (i := 0) o dJ26_next_28 rfl rfl) ?_
    obtain ⟨g7, hm⟩ := gd_e hm
    refine zh_getR o g7 fl_J26_1_15 rfl dJ26_next_29 ?_
    obtain ⟨g8, hm⟩ := gd_e hm
    refine zh_getR o g8 fl_J26_37_10 rfl dJ26_next_32 ?_
    obtain ⟨r9, e_r9, hm⟩ := lt_e hm
    refine zQ.nmr e_r9 ?_
    refine zQ.s (fun h => zs_astore_n (i := 2) o dJ26_next_35 rfl (by decide) (Or.inr rfl) (by simp only [List.set_cons_succ, List.set_cons_zero]; rfl)) ?_
    refine zQ.s (fun h => zs_iload_n (i := 1) o dJ26_next_36 rfl rfl) ?_
    refine zQ.s (fun h => zs_aload_n (i := 2) o dJ26_next_37 rfl rfl) ?_
    obtain ⟨g10, hm⟩ := gd_e hm
    refine zh_alen o g10 dJ26_next_38 ?_
    refine zQ.b (fun h => zs_icmp_lt (tgt := 50) o dJ26_next_39 (by decide)) (fun c => ?_) (fun c => ?_)
    · have hm := if_e1 hm c
      refine zQ.s (fun h => zs_aload_n (i := 0) o dJ26_next_50 rfl rfl) ?_
      refine zQ.s (fun h => zs_iload_n (i := 1) o dJ26_next_51 rfl rfl) ?_
      refine zQ.s (fun h => zs_iconst (v := 1) o dJ26_next_52 (by decide)) ?_
      refine zQ.s (fun h => zs_iadd o dJ26_next_53) ?_
      obtain ⟨g11, hm⟩ := gd_e hm
      obtain ⟨g12, hm⟩ := gd_e hm
      obtain ⟨S13, e_S13, hm⟩ := lt_e hm
      refine zh_putI o g11 g12 fl_J26_25_15 rfl rfl ⟨rfl, rfl⟩ dJ26_next_54 e_S13 ?_
      refine zQ.s (fun h => zs_aload_n (i := 2) o dJ26_next_57 rfl rfl) ?_
      refine zQ.s (fun h => zs_aload_n (i := 0) o dJ26_next_58 rfl rfl) ?_
      refine zQ.s (fun h => zs_iload_n (i := 1) o dJ26_next_59 rfl rfl) ?_
      refine zQ.s (fun h => zs_dup_x1 o dJ26_next_60 (by first | rfl | exact zrf_cat _) (by first | rfl | exact zrf_cat _)) ?_
      obtain ⟨g14, hm⟩ := gd_e hm
      obtain ⟨g15, hm⟩ := gd_e hm
      obtain ⟨S16, e_S16, hm⟩ := lt_e hm
      refine zh_putI o g14 g15 fl_J26_13_15 rfl rfl ⟨rfl, rfl⟩ dJ26_next_61 e_S16 ?_
      obtain ⟨g17, hm⟩ := gd_e hm
      obtain ⟨g18, hm⟩ := gd_e hm
      refine zh_aald o (Or.inl rfl) g17 g18 dJ26_next_64 ?_
      refine zh_retr o f dJ26_next_65 rfl (by omega) (by omega) ((so_e hm).trans hR9.symm)
    · have hm := if_e2 hm c
      exact no_e hm
  · have hm := if_e2 hm c
    exact no_e hm

def j_J2_iterator (h : zH) (p : Nat) : Option (zH × Nat) :=
  lt (zT h + 1) fun r1 =>
  lt (nw h 15 (rl h p) 0) fun S2 =>
  gd (nzr r1) <|
  bd (j_J26_init S2 r1 p) fun y4 =>
  some (y4, r1)

set_option maxHeartbeats 40000000 in
theorem J_J2_iterator (G : zG) (h : zH) (p : Nat) (V : Nat) (h9 : zH) (hm : j_J2_iterator h p = some (h9, V)) : zJr G yJ2_iterator cJ2_iterator 1 (some (.object "java/util/Iterator")) 2 1 4 [zrf p] h V h9 := by
  refine zCo.st [some (zrf p)] rfl rfl (by simp only [zarg_r, zarg_i, zarg_l, zarg_0]; rfl) (fun X o f0 hin hw0 => ?_)
  have f := f0.e
  have hin : (Xt X).name = "iterator" := hin
  refine (?_ : zQ (EH h) G X 0 0 0 [some (zrf p)] []) h rfl hw0
  clear hw0
  generalize hR9 : ((h9, V) : (zH × Nat)) = R at hm
  unfold j_J2_iterator at hm
  obtain ⟨r1, e_r1, hm⟩ := lt_e hm
  obtain ⟨S2, e_S2, hm⟩ := lt_e hm
  refine zh_new (N := 4) o nl_J2_267 rfl dJ2_iterator_0 (by omega) (by omega) e_S2 ?_
  refine zQ.nmr e_r1 ?_
  refine zQ.s (fun h => zs_dup o dJ2_iterator_3 (by first | rfl | exact zrf_cat _)) ?_
  refine zQ.s (fun h => zs_aload_n (i := 0) o dJ2_iterator_4 rfl rfl) ?_
  obtain ⟨g3, hm⟩ := gd_e hm
  obtain ⟨y4, c_y4, hm⟩ := bd_e hm
  refine zh_Iv o g3 ml_J2_269 (J_J26_init G _ _ _ _  c_y4) dJ2_iterator_5 rfl rfl rfl rfl (by omega) (by omega) ?_
  refine zh_retr o f dJ2_iterator_8 rfl (by omega) (by omega) ((so_e hm).trans hR9.symm)

def j_J19_canEncode_j16 (h : zH) (s0 : Int32) : Option (zH × Int32) :=
  gd (b01 s0) <|
  some (h, s0)
def j_J19_canEncode_j15 (h : zH) : Option (zH × Int32) :=
  j_J19_canEncode_j16 h (0 : Int32)
def j_J19_canEncode (h : zH) (a1 : Int32) : Option (zH × Int32) :=
  if a1 < (0 : Int32) then
    j_J19_canEncode_j15 h
  else
    if (255 : Int32) < a1 then
      j_J19_canEncode_j15 h
    else
      j_J19_canEncode_j16 h (1 : Int32)

set_option maxHeartbeats 40000000 in
theorem J_J19_canEncode (G : zG) (h : zH) (a1 : Int32) (V : Int32) (h9 : zH) (hm : j_J19_canEncode h a1 = some (h9, V)) : zJi G yJ19_canEncode cJ19_canEncode 1 (some .boolean) 0 0 0 [.int a1] h V h9 := by
  refine zCo.st [some (.int a1)] rfl rfl (by simp only [zarg_r, zarg_i, zarg_l, zarg_0]; rfl) (fun X o f0 hin hw0 => ?_)
  have f := f0.e
  have hin : (Xt X).name = "canEncode" := hin
  refine (?_ : zQ (EH h) G X 0 0 0 [some (.int a1)] []) h rfl hw0
  clear hw0
  generalize hR9 : ((h9, V) : (zH × Int32)) = R at hm
  have hj16 : ∀ (h : zH) (s0 : Int32) (cl sl : Nat), cl + (0) ≤ 0 → sl + (0) ≤ 0 → j_J19_canEncode_j16 h s0 = some R → zQ (EH h) G X cl sl 16 [none] [.int s0] := by
    intro h s0 cl sl hc hs hm
    unfold j_J19_canEncode_j16 at hm
    obtain ⟨g1, hm⟩ := gd_e hm
    refine zh_reti o f dJ19_canEncode_16 (b01_e g1).1 (by omega) (by omega) ((so_e hm).trans hR9.symm)
  have hj15 : ∀ (h : zH) (cl sl : Nat), cl + (0) ≤ 0 → sl + (0) ≤ 0 → j_J19_canEncode_j15 h = some R → zQ (EH h) G X cl sl 15 [none] [] := by
    intro h cl sl hc hs hm
    unfold j_J19_canEncode_j15 at hm
    refine zQ.s (fun h => zs_iconst (v := 0) o dJ19_canEncode_15 (by decide)) ?_
    exact hj16 _ _ _ _ (by omega) (by omega) hm
  unfold j_J19_canEncode at hm
  refine zQ.s (fun h => zs_iload_n (i := 0) o dJ19_canEncode_0 rfl rfl) ?_
  refine zQ.b (fun h => zs_if_lt (tgt := 15) o dJ19_canEncode_1 (by decide)) (fun c => ?_) (fun c => ?_)
  · have hm := if_e1 hm c
    refine zQ.fg (zl_n zl_0) ?_
    exact hj15 _ _ _ (by omega) (by omega) hm
  · have hm := if_e2 hm c
    refine zQ.s (fun h => zs_iload_n (i := 0) o dJ19_canEncode_4 rfl rfl) ?_
    refine zQ.s (fun h => zs_sipush (v := 255) o dJ19_canEncode_5 (by decide)) ?_
    refine zQ.b (fun h => zs_icmp_gt (tgt := 15) o dJ19_canEncode_8 (by decide)) (fun c => ?_) (fun c => ?_)
    · have hm := if_e1 hm c
      refine zQ.fg (zl_n zl_0) ?_
      exact hj15 _ _ _ (by omega) (by omega) hm
    · have hm := if_e2 hm c
      refine zQ.s (fun h => zs_iconst (v := 1) o dJ19_canEncode_11 (by decide)) ?_
      refine zQ.s (fun h => zs_goto (tgt := 16) o dJ19_canEncode_12 (by decide)) ?_
      refine zQ.fg (zl_n zl_0) ?_
      exact hj16 _ _ _ _ (by omega) (by omega) hm

def j_J19_indexOfChar_b7 (k7 : zH → Nat → Int32 → Int32 → Int32 → Option (zH × Int32)) (h : zH) (x0 : Nat) (x3 : Int32) (x4 : Int32) (x5 : Int32) : Option (zH × Int32) :=
  if x3 ≤ x5 then
    some (h, (-1 : Int32))
  else
    gd (kd h x0 207) <|
    gd (inb x5 (zN h x0)) <|
    if (hI h 207 (ix x5) x0) = x4 then
      some (h, x5)
    else
      k7 h x0 x3 x4 (x5 + (1 : Int32))
def j_J19_indexOfChar_l7 : Nat → zH → Nat → Int32 → Int32 → Int32 → Option (zH × Int32)
  | 0 => fun _ _ _ _ _ => none
  | n + 1 => j_J19_indexOfChar_b7 (j_J19_indexOfChar_l7 n)
def j_J19_indexOfChar (h : zH) (a1 : Nat) (a2 : Int32) (a3 : Int32) (a4 : Int32) : Option (zH × Int32) :=
  j_J19_indexOfChar_l7 100 h a1 a4 a2.toInt8.toInt32 a3

set_option maxHeartbeats 40000000 in
theorem J_J19_indexOfChar (G : zG) (h : zH) (a1 : Nat) (a2 : Int32) (a3 : Int32) (a4 : Int32) (V : Int32) (h9 : zH) (hm : j_J19_indexOfChar h a1 a2 a3 a4 = some (h9, V)) : zJi G yJ19_indexOfChar cJ19_indexOfChar 6 (some .int) 0 0 0 [zrf a1, .int a2, .int a3, .int a4] h V h9 := by
  refine zCo.st [some (zrf a1), some (.int a2), some (.int a3), some (.int a4), none, none] rfl rfl (by simp only [zarg_r, zarg_i, zarg_l, zarg_0]; rfl) (fun X o f0 hin hw0 => ?_)
  have f := f0.e
  have hin : (Xt X).name = "indexOfChar" := hin
  refine (?_ : zQ (EH h) G X 0 0 0 [some (zrf a1), some (.int a2), some (.int a3), some (.int a4), none, none] []) h rfl hw0
  clear hw0
  generalize hR9 : ((h9, V) : (zH × Int32)) = R at hm
  have hl7 : ∀ (n7 : Nat), n7 ≤ 100 → ∀ (h : zH) (x0 : Nat) (x3 : Int32) (x4 : Int32) (x5 : Int32) (cl sl : Nat), cl + (0) ≤ 0 → sl + (0) ≤ 0 → j_J19_indexOfChar_l7 n7 h x0 x3 x4 x5 = some R → zQ (EH h) G X cl sl 7 [some (zrf x0), none, none, some (.int x3), some (.int x4), some (.int x5)] [] := by
    intro n7
    induction n7 with
    | zero => intro _ h x0 x3 x4 x5 cl sl _ _ hm; exact no_e hm
    | succ n7 ih =>
      intro hf7
      have ih7 := ih (by omega)
      intro h x0 x3 x4 x5 cl sl hc hs hm
      have hm : j_J19_indexOfChar_b7 (j_J19_indexOfChar_l7 n7) h x0 x3 x4 x5 = some R := hm
      unfold j_J19_indexOfChar_b7 at hm
      refine zQ.s (fun h => zs_iload (i := 5) o dJ19_indexOfChar_7 rfl) ?_
      refine zQ.s (fun h => zs_iload_n (i := 3) o dJ19_indexOfChar_9 rfl rfl) ?_
      refine zQ.b (fun h => zs_icmp_ge (tgt := 31) o dJ19_indexOfChar_10 (by decide)) (fun c => ?_) (fun c => ?_)
      · have hm := if_e1 hm c
        refine zQ.s (fun h => zs_iconst (v := -1) o dJ19_indexOfChar_31 (by decide)) ?_
        refine zh_reti o f dJ19_indexOfChar_32 rfl (by omega) (by omega) ((so_e hm).trans hR9.symm)
      · have hm := if_e2 hm c
        refine zQ.s (fun h => zs_aload_n (i := 0) o dJ19_indexOfChar_13 rfl rfl) ?_
        refine zQ.s (fun h => zs_iload (i := 5) o dJ19_indexOfChar_14 rfl) ?_
        obtain ⟨g1, hm⟩ := gd_e hm
        obtain ⟨g2, hm⟩ := gd_e hm
        refine zh_yald o g1 g2 dJ19_indexOfChar_16 ?_
        refine zQ.s (fun h => zs_iload (i := 4) o dJ19_indexOfChar_17 rfl) ?_
        refine zQ.b (fun h => zs_icmp_ne (tgt := 25) o dJ19_indexOfChar_19 (by decide)) (fun c => ?_) (fun c => ?_)
        · have hm := if_e2 hm c
          refine zQ.s (fun h => zs_iinc (i := 5) (v := x5 + (1 : Int32)) o dJ19_indexOfChar_25 rfl rfl (by decide) (Or.inr rfl) (by simp only [List.set_cons_succ, List.set_cons_zero]; rfl)) ?_
          refine zQ.s (fun h => zs_goto (tgt := 7) o dJ19_indexOfChar_28 (by decide)) ?_
          exact ih7 _ _ _ _ _ _ _ (by omega) (by omega) hm
        · have hm := if_e1 hm c
          refine zQ.s (fun h => zs_iload (i := 5) o dJ19_indexOfChar_22 rfl) ?_
          refine zh_reti o f dJ19_indexOfChar_24 rfl (by omega) (by omega) ((so_e hm).trans hR9.symm)
  unfold j_J19_indexOfChar at hm
  refine zQ.s (fun h => zs_iload_n (i := 1) o dJ19_indexOfChar_0 rfl rfl) ?_
  refine zQ.s (fun h => zs_i2b o dJ19_indexOfChar_1 rfl) ?_
  refine zQ.s (fun h => zs_istore (i := 4) o dJ19_indexOfChar_2 (by decide) (Or.inr rfl) (by simp only [List.set_cons_succ, List.set_cons_zero]; rfl)) ?_
  refine zQ.s (fun h => zs_iload_n (i := 2) o dJ19_indexOfChar_4 rfl rfl) ?_
  refine zQ.s (fun h => zs_istore (i := 5) o dJ19_indexOfChar_5 (by decide) (Or.inr rfl) (by simp only [List.set_cons_succ, List.set_cons_zero]; rfl)) ?_
  refine zQ.fg (zl_s (zl_n (zl_n (zl_s (zl_s (zl_s zl_0)))))) ?_
  exact hl7 100 (Nat.le_refl _) _ _ _ _ _ _ _ (by omega) (by omega) hm

def j_J19_indexOf (h : zH) (a1 : Nat) (a2 : Int32) (a3 : Int32) (a4 : Int32) : Option (zH × Int32) :=
  bd (j_J19_canEncode h a2) fun y1 =>
  if y1.2 = (0 : Int32) then
    some (y1.1, (-1 : Int32))
  else
    lt (imx a3 (0 : Int32)) fun v2 =>
    gd (isA y1.1 a1) <|
    lt (imn a4 (nI (zN y1.1 a1))) fun v4 =>
    if v2 < v4 then
      bd (j_J19_indexOfChar y1.1 a1 a2 v2 v4) fun y5 =>
      some (y5.1, y5.2)
    else
      some (y1.1, (-1 : Int32))

set_option maxHeartbeats 40000000 in
theorem J_J19_indexOf (G : zG) (h : zH) (a1 : Nat) (a2 : Int32) (a3 : Int32) (a4 : Int32) (V : Int32) (h9 : zH) (hm : j_J19_indexOf h a1 a2 a3 a4 = some (h9, V)) : zJi G yJ19_indexOf cJ19_indexOf 4 (some .int) 1 0 0 [zrf a1, .int a2, .int a3, .int a4] h V h9 := by
  refine zCo.st [some (zrf a1), some (.int a2), some (.int a3), some (.int a4)] rfl rfl (by simp only [zarg_r, zarg_i, zarg_l, zarg_0]; rfl) (fun X o f0 hin hw0 => ?_)
  have f := f0.e
  have hin : (Xt X).name = "indexOf" := hin
  refine (?_ : zQ (EH h) G X 0 0 0 [some (zrf a1), some (.int a2), some (.int a3), some (.int a4)] []) h rfl hw0
  clear hw0
  generalize hR9 : ((h9, V) : (zH × Int32)) = R at hm
  unfold j_J19_indexOf at hm
  refine zQ.s (fun h => zs_iload_n (i := 1) o dJ19_indexOf_0 rfl rfl) ?_
  obtain ⟨y1, c_y1, hm⟩ := bd_e hm
  refine zh_Si o ml_J19_88 (J_J19_canEncode G _ _ _ _  c_y1) dJ19_indexOf_1 rfl rfl rfl rfl (by omega) (by omega) ?_
  refine zQ.b (fun h => zs_if_ne (tgt := 9) o dJ19_indexOf_4 (by decide)) (fun c => ?_) (fun c => ?_)
  · have hm := if_e2 hm c
    refine zQ.s (fun h => zs_iload_n (i := 2) o dJ19_indexOf_9 rfl rfl) ?_
    refine zQ.s (fun h => zs_iconst (v := 0) o dJ19_indexOf_10 (by decide)) ?_
    refine zQ.s (fun h => zs_mmax o q1918 q403 q127 q404 rfl rfl (by omega) (by omega) dJ19_indexOf_11) ?_
    obtain ⟨v2, e_v2, hm⟩ := lt_e hm
    refine zQ.nmi e_v2 ?_
    refine zQ.s (fun h => zs_istore_n (i := 2) o dJ19_indexOf_14 rfl (by decide) (Or.inr rfl) (by simp only [List.set_cons_succ, List.set_cons_zero]; rfl)) ?_
    refine zQ.s (fun h => zs_iload_n (i := 3) o dJ19_indexOf_15 rfl rfl) ?_
    refine zQ.s (fun h => zs_aload_n (i := 0) o dJ19_indexOf_16 rfl rfl) ?_
    obtain ⟨g3, hm⟩ := gd_e hm
    refine zh_alen o g3 dJ19_indexOf_17 ?_
    refine zQ.s (fun h => zs_mmin o q1919 q421 q127 q422 rfl rfl (by omega) (by omega) dJ19_indexOf_18) ?_
    obtain ⟨v4, e_v4, hm⟩ := lt_e hm
    refine zQ.nmi e_v4 ?_
    refine zQ.s (fun h => zs_istore_n (i := 3) o dJ19_indexOf_21 rfl (by decide) (Or.inr rfl) (by simp only [List.set_cons_succ, List.set_cons_zero]; rfl)) ?_
    refine zQ.s (fun h => zs_iload_n (i := 2) o dJ19_indexOf_22 rfl rfl) ?_
    refine zQ.s (fun h => zs_iload_n (i := 3) o dJ19_indexOf_23 rfl rfl) ?_
    refine zQ.b (fun h => zs_icmp_lt (tgt := 29) o dJ19_indexOf_24 (by decide)) (fun c => ?_) (fun c => ?_)
    · have hm := if_e1 hm c
      refine zQ.s (fun h => zs_aload_n (i := 0) o dJ19_indexOf_29 rfl rfl) ?_
      refine zQ.s (fun h => zs_iload_n (i := 1) o dJ19_indexOf_30 rfl rfl) ?_
      refine zQ.s (fun h => zs_iload_n (i := 2) o dJ19_indexOf_31 rfl rfl) ?_
      refine zQ.s (fun h => zs_iload_n (i := 3) o dJ19_indexOf_32 rfl rfl) ?_
      obtain ⟨y5, c_y5, hm⟩ := bd_e hm
      refine zh_Si o ml_J19_95 (J_J19_indexOfChar G _ _ _ _ _ _ _  c_y5) dJ19_indexOf_33 rfl rfl rfl rfl (by omega) (by omega) ?_
      refine zh_reti o f dJ19_indexOf_36 rfl (by omega) (by omega) ((so_e hm).trans hR9.symm)
    · have hm := if_e2 hm c
      refine zQ.s (fun h => zs_iconst (v := -1) o dJ19_indexOf_27 (by decide)) ?_
      refine zh_reti o f dJ19_indexOf_28 rfl (by omega) (by omega) ((so_e hm).trans hR9.symm)
  · have hm := if_e1 hm c
    refine zQ.s (fun h => zs_iconst (v := -1) o dJ19_indexOf_7 (by decide)) ?_
    refine zh_reti o f dJ19_indexOf_8 rfl (by omega) (by omega) ((so_e hm).trans hR9.symm)

def j_J7_isLatin1_j18 (h : zH) (s0 : Int32) : Option (zH × Int32) :=
  gd (b01 s0) <|
  some (h, s0)
def j_J7_isLatin1_j17 (h : zH) : Option (zH × Int32) :=
  j_J7_isLatin1_j18 h (0 : Int32)
def j_J7_isLatin1 (h : zH) (p : Nat) : Option (zH × Int32) :=
  if (1 : Int32) = (0 : Int32) then
    j_J7_isLatin1_j17 h
  else
    gd (kd h p 20) <|
    if (hI h 20 1 p) = (0 : Int32) then
      j_J7_isLatin1_j18 h (1 : Int32)
    else
      j_J7_isLatin1_j17 h

set_option maxHeartbeats 40000000 in
theorem J_J7_isLatin1 (G : zG) (h : zH) (p : Nat) (V : Int32) (h9 : zH) (z_cs : ("java/lang/String", "COMPACT_STRINGS", "Z", .int 1) ∈ zGz G) (hm : j_J7_isLatin1 h p = some (h9, V)) : zJi G yJ7_isLatin1 cJ7_isLatin1 1 (some .boolean) 0 0 0 [zrf p] h V h9 := by
  refine zCo.st [some (zrf p)] rfl rfl (by simp only [zarg_r, zarg_i, zarg_l, zarg_0]; rfl) (fun X o f0 hin hw0 => ?_)
  have f := f0.e
  have hin : (Xt X).name = "isLatin1" := hin
  refine (?_ : zQ (EH h) G X 0 0 0 [some (zrf p)] []) h rfl hw0
  clear hw0
  generalize hR9 : ((h9, V) : (zH × Int32)) = R at hm
  have hj18 : ∀ (h : zH) (s0 : Int32) (cl sl : Nat), cl + (0) ≤ 0 → sl + (0) ≤ 0 → j_J7_isLatin1_j18 h s0 = some R → zQ (EH h) G X cl sl 18 [none] [.int s0] := by
    intro h s0 cl sl hc hs hm
    unfold j_J7_isLatin1_j18 at hm
    obtain ⟨g1, hm⟩ := gd_e hm
    refine zh_reti o f dJ7_isLatin1_18 (b01_e g1).1 (by omega) (by omega) ((so_e hm).trans hR9.symm)
  have hj17 : ∀ (h : zH) (cl sl : Nat), cl + (0) ≤ 0 → sl + (0) ≤ 0 → j_J7_isLatin1_j17 h = some R → zQ (EH h) G X cl sl 17 [none] [] := by
    intro h cl sl hc hs hm
    unfold j_J7_isLatin1_j17 at hm
    refine zQ.s (fun h => zs_iconst (v := 0) o dJ7_isLatin1_17 (by decide)) ?_
    exact hj18 _ _ _ _ (by omega) (by omega) hm
  unfold j_J7_isLatin1 at hm
  refine zQ.s (fun h => zs_gets o z_cs q298 dJ7_isLatin1_0) ?_
  refine zQ.b (fun h => zs_if_eq (tgt := 17) o dJ7_isLatin1_3 (by decide)) (fun c => ?_) (fun c => ?_)
  · have hm := if_e1 hm c
    refine zQ.fg (zl_n zl_0) ?_
    exact hj17 _ _ _ (by omega) (by omega) hm
  · have hm := if_e2 hm c
    refine zQ.s (fun h => zs_aload_n (i := 0) o dJ7_isLatin1_6 rfl rfl) ?_
    obtain ⟨g1, hm⟩ := gd_e hm
    refine zh_getI o g1 fl_J7_15_20 rfl dJ7_isLatin1_7 ?_
    refine zQ.b (fun h => zs_if_ne (tgt := 17) o dJ7_isLatin1_10 (by decide)) (fun c => ?_) (fun c => ?_)
    · have hm := if_e2 hm c
      refine zQ.fg (zl_n zl_0) ?_
      exact hj17 _ _ _ (by omega) (by omega) hm
    · have hm := if_e1 hm c
      refine zQ.s (fun h => zs_iconst (v := 1) o dJ7_isLatin1_13 (by decide)) ?_
      refine zQ.s (fun h => zs_goto (tgt := 18) o dJ7_isLatin1_14 (by decide)) ?_
      refine zQ.fg (zl_n zl_0) ?_
      exact hj18 _ _ _ _ (by omega) (by omega) hm

def j_J7_coder_j14 (h : zH) (s0 : Int32) : Option (zH × Int32) :=
  gd (byt s0) <|
  some (h, s0)
def j_J7_coder (h : zH) (p : Nat) : Option (zH × Int32) :=
  if (1 : Int32) = (0 : Int32) then
    j_J7_coder_j14 h (1 : Int32)
  else
    gd (kd h p 20) <|
    j_J7_coder_j14 h (hI h 20 1 p)

set_option maxHeartbeats 40000000 in
theorem J_J7_coder (G : zG) (h : zH) (p : Nat) (V : Int32) (h9 : zH) (z_cs : ("java/lang/String", "COMPACT_STRINGS", "Z", .int 1) ∈ zGz G) (hm : j_J7_coder h p = some (h9, V)) : zJi G yJ7_coder cJ7_coder 1 (some .byte) 0 0 0 [zrf p] h V h9 := by
  refine zCo.st [some (zrf p)] rfl rfl (by simp only [zarg_r, zarg_i, zarg_l, zarg_0]; rfl) (fun X o f0 hin hw0 => ?_)
  have f := f0.e
  have hin : (Xt X).name = "coder" := hin
  refine (?_ : zQ (EH h) G X 0 0 0 [some (zrf p)] []) h rfl hw0
  clear hw0
  generalize hR9 : ((h9, V) : (zH × Int32)) = R at hm
  have hj14 : ∀ (h : zH) (s0 : Int32) (cl sl : Nat), cl + (0) ≤ 0 → sl + (0) ≤ 0 → j_J7_coder_j14 h s0 = some R → zQ (EH h) G X cl sl 14 [none] [.int s0] := by
    intro h s0 cl sl hc hs hm
    unfold j_J7_coder_j14 at hm
    obtain ⟨g1, hm⟩ := gd_e hm
    refine zh_reti o f dJ7_coder_14 (byt_e g1) (by omega) (by omega) ((so_e hm).trans hR9.symm)
  unfold j_J7_coder at hm
  refine zQ.s (fun h => zs_gets o z_cs q298 dJ7_coder_0) ?_
  refine zQ.b (fun h => zs_if_eq (tgt := 13) o dJ7_coder_3 (by decide)) (fun c => ?_) (fun c => ?_)
  · have hm := if_e1 hm c
    refine zQ.s (fun h => zs_iconst (v := 1) o dJ7_coder_13 (by decide)) ?_
    refine zQ.fg (zl_n zl_0) ?_
    exact hj14 _ _ _ _ (by omega) (by omega) hm
  · have hm := if_e2 hm c
    refine zQ.s (fun h => zs_aload_n (i := 0) o dJ7_coder_6 rfl rfl) ?_
    obtain ⟨g1, hm⟩ := gd_e hm
    refine zh_getI o g1 fl_J7_15_20 rfl dJ7_coder_7 ?_
    refine zQ.s (fun h => zs_goto (tgt := 14) o dJ7_coder_10 (by decide)) ?_
    refine zQ.fg (zl_n zl_0) ?_
    exact hj14 _ _ _ _ (by omega) (by omega) hm

def j_J7_length (h : zH) (p : Nat) : Option (zH × Int32) :=
  gd (kd h p 20) <|
  gd (isA h (hR h 20 0 p)) <|
  gd (kd h p 20) <|
  bd (j_J7_coder h p) fun y4 =>
  some (y4.1, (nI (zN h (hR h 20 0 p))) >>> (y4.2 &&& 31))

set_option maxHeartbeats 40000000 in
theorem J_J7_length (G : zG) (h : zH) (p : Nat) (V : Int32) (h9 : zH) (z_cs : ("java/lang/String", "COMPACT_STRINGS", "Z", .int 1) ∈ zGz G) (hm : j_J7_length h p = some (h9, V)) : zJi G yJ7_length cJ7_length 1 (some .int) 1 0 0 [zrf p] h V h9 := by
  refine zCo.st [some (zrf p)] rfl rfl (by simp only [zarg_r, zarg_i, zarg_l, zarg_0]; rfl) (fun X o f0 hin hw0 => ?_)
  have f := f0.e
  have hin : (Xt X).name = "length" := hin
  refine (?_ : zQ (EH h) G X 0 0 0 [some (zrf p)] []) h rfl hw0
  clear hw0
  generalize hR9 : ((h9, V) : (zH × Int32)) = R at hm
  unfold j_J7_length at hm
  refine zQ.s (fun h => zs_aload_n (i := 0) o dJ7_length_0 rfl rfl) ?_
  obtain ⟨g1, hm⟩ := gd_e hm
  refine zh_getR o g1 fl_J7_9_20 rfl dJ7_length_1 ?_
  obtain ⟨g2, hm⟩ := gd_e hm
  refine zh_alen o g2 dJ7_length_4 ?_
  refine zQ.s (fun h => zs_aload_n (i := 0) o dJ7_length_5 rfl rfl) ?_
  obtain ⟨g3, hm⟩ := gd_e hm
  obtain ⟨y4, c_y4, hm⟩ := bd_e hm
  refine zh_Vi o g3 ml_J7_335 (J_J7_coder G _ _ _ _ z_cs c_y4) dJ7_length_6 rfl rfl rfl rfl (by omega) (by omega) ?_
  refine zQ.s (fun h => zs_ishr o dJ7_length_9) ?_
  refine zh_reti o f dJ7_length_10 rfl (by omega) (by omega) ((so_e hm).trans hR9.symm)

def j_J7_indexOf_2_j36 (h : zH) (s0 : Int32) : Option (zH × Int32) :=
  some (h, s0)
def j_J7_indexOf_2 (h : zH) (p : Nat) (a1 : Int32) (a2 : Int32) : Option (zH × Int32) :=
  gd (kd h p 20) <|
  bd (j_J7_isLatin1 h p) fun y2 =>
  if y2.2 = (0 : Int32) then
    gd (kd y2.1 p 20) <|
    gd (kd y2.1 p 20) <|
    bd (j_J7_length y2.1 p) fun y5 =>
    none
  else
    gd (kd y2.1 p 20) <|
    gd (kd y2.1 p 20) <|
    bd (j_J7_length y2.1 p) fun y8 =>
    bd (j_J19_indexOf y8.1 (hR y2.1 20 0 p) a1 a2 y8.2) fun y9 =>
    j_J7_indexOf_2_j36 y9.1 y9.2

set_option maxHeartbeats 40000000 in
theorem J_J7_indexOf_2 (G : zG) (h : zH) (p : Nat) (a1 : Int32) (a2 : Int32) (V : Int32) (h9 : zH) (z_cs : ("java/lang/String", "COMPACT_STRINGS", "Z", .int 1) ∈ zGz G) (hm : j_J7_indexOf_2 h p a1 a2 = some (h9, V)) : zJi G yJ7_indexOf_2 cJ7_indexOf_2 3 (some .int) 2 0 0 [zrf p, .int a1, .int a2] h V h9 := by
  refine zCo.st [some (zrf p), some (.int a1), some (.int a2)] rfl rfl (by simp only [zarg_r, zarg_i, zarg_l, zarg_0]; rfl) (fun X o f0 hin hw0 => ?_)
  have f := f0.e
  have hin : (Xt X).name = "indexOf" := hin
  refine (?_ : zQ (EH h) G X 0 0 0 [some (zrf p), some (.int a1), some (.int a2)] []) h rfl hw0
  clear hw0
  generalize hR9 : ((h9, V) : (zH × Int32)) = R at hm
  have hj36 : ∀ (h : zH) (s0 : Int32) (cl sl : Nat), cl + (0) ≤ 0 → sl + (0) ≤ 0 → j_J7_indexOf_2_j36 h s0 = some R → zQ (EH h) G X cl sl 36 [none, none, none] [.int s0] := by
    intro h s0 cl sl hc hs hm
    unfold j_J7_indexOf_2_j36 at hm
    refine zh_reti o f dJ7_indexOf_2_36 rfl (by omega) (by omega) ((so_e hm).trans hR9.symm)
  unfold j_J7_indexOf_2 at hm
  refine zQ.s (fun h => zs_aload_n (i := 0) o dJ7_indexOf_2_0 rfl rfl) ?_
  obtain ⟨g1, hm⟩ := gd_e hm
  obtain ⟨y2, c_y2, hm⟩ := bd_e hm
  refine zh_Vi o g1 ml_J7_492 (J_J7_isLatin1 G _ _ _ _ z_cs c_y2) dJ7_indexOf_2_1 rfl rfl rfl rfl (by omega) (by omega) ?_
  refine zQ.b (fun h => zs_if_eq (tgt := 23) o dJ7_indexOf_2_4 (by decide)) (fun c => ?_) (fun c => ?_)
  · have hm := if_e1 hm c
    refine zQ.s (fun h => zs_aload_n (i := 0) o dJ7_indexOf_2_23 rfl rfl) ?_
    obtain ⟨g3, hm⟩ := gd_e hm
    refine zh_getR o g3 fl_J7_9_20 rfl dJ7_indexOf_2_24 ?_
    refine zQ.s (fun h => zs_iload_n (i := 1) o dJ7_indexOf_2_27 rfl rfl) ?_
    refine zQ.s (fun h => zs_iload_n (i := 2) o dJ7_indexOf_2_28 rfl rfl) ?_
    refine zQ.s (fun h => zs_aload_n (i := 0) o dJ7_indexOf_2_29 rfl rfl) ?_
    obtain ⟨g4, hm⟩ := gd_e hm
    obtain ⟨y5, c_y5, hm⟩ := bd_e hm
    refine zh_Vi o g4 ml_J7_505 (J_J7_length G _ _ _ _ z_cs c_y5) dJ7_indexOf_2_30 rfl rfl rfl rfl (by omega) (by omega) ?_
    exact no_e hm
  · have hm := if_e2 hm c
    refine zQ.s (fun h => zs_aload_n (i := 0) o dJ7_indexOf_2_7 rfl rfl) ?_
    obtain ⟨g6, hm⟩ := gd_e hm
    refine zh_getR o g6 fl_J7_9_20 rfl dJ7_indexOf_2_8 ?_
    refine zQ.s (fun h => zs_iload_n (i := 1) o dJ7_indexOf_2_11 rfl rfl) ?_
    refine zQ.s (fun h => zs_iload_n (i := 2) o dJ7_indexOf_2_12 rfl rfl) ?_
    refine zQ.s (fun h => zs_aload_n (i := 0) o dJ7_indexOf_2_13 rfl rfl) ?_
    obtain ⟨g7, hm⟩ := gd_e hm
    obtain ⟨y8, c_y8, hm⟩ := bd_e hm
    refine zh_Vi o g7 ml_J7_505 (J_J7_length G _ _ _ _ z_cs c_y8) dJ7_indexOf_2_14 rfl rfl rfl rfl (by omega) (by omega) ?_
    obtain ⟨y9, c_y9, hm⟩ := bd_e hm
    refine zh_Si o ml_J7_637 (J_J19_indexOf G _ _ _ _ _ _ _  c_y9) dJ7_indexOf_2_17 rfl rfl rfl rfl (by omega) (by omega) ?_
    refine zQ.s (fun h => zs_goto (tgt := 36) o dJ7_indexOf_2_20 (by decide)) ?_
    refine zQ.fg (zl_n (zl_n (zl_n zl_0))) ?_
    exact hj36 _ _ _ _ (by omega) (by omega) hm

def j_J7_indexOf (h : zH) (p : Nat) (a1 : Int32) : Option (zH × Int32) :=
  gd (kd h p 20) <|
  bd (j_J7_indexOf_2 h p a1 (0 : Int32)) fun y2 =>
  some (y2.1, y2.2)

set_option maxHeartbeats 40000000 in
theorem J_J7_indexOf (G : zG) (h : zH) (p : Nat) (a1 : Int32) (V : Int32) (h9 : zH) (z_cs : ("java/lang/String", "COMPACT_STRINGS", "Z", .int 1) ∈ zGz G) (hm : j_J7_indexOf h p a1 = some (h9, V)) : zJi G yJ7_indexOf cJ7_indexOf 2 (some .int) 3 0 0 [zrf p, .int a1] h V h9 := by
  refine zCo.st [some (zrf p), some (.int a1)] rfl rfl (by simp only [zarg_r, zarg_i, zarg_l, zarg_0]; rfl) (fun X o f0 hin hw0 => ?_)
  have f := f0.e
  have hin : (Xt X).name = "indexOf" := hin
  refine (?_ : zQ (EH h) G X 0 0 0 [some (zrf p), some (.int a1)] []) h rfl hw0
  clear hw0
  generalize hR9 : ((h9, V) : (zH × Int32)) = R at hm
  unfold j_J7_indexOf at hm
  refine zQ.s (fun h => zs_aload_n (i := 0) o dJ7_indexOf_0 rfl rfl) ?_
  refine zQ.s (fun h => zs_iload_n (i := 1) o dJ7_indexOf_1 rfl rfl) ?_
  refine zQ.s (fun h => zs_iconst (v := 0) o dJ7_indexOf_2 (by decide)) ?_
  obtain ⟨g1, hm⟩ := gd_e hm
  obtain ⟨y2, c_y2, hm⟩ := bd_e hm
  refine zh_Vi o g1 ml_J7_633 (J_J7_indexOf_2 G _ _ _ _ _ _ z_cs c_y2) dJ7_indexOf_3 rfl rfl rfl rfl (by omega) (by omega) ?_
  refine zh_reti o f dJ7_indexOf_6 rfl (by omega) (by omega) ((so_e hm).trans hR9.symm)

def j_J3_wordIndex (h : zH) (a1 : Int32) : Option (zH × Int32) :=
  some (h, a1 >>> ((6 : Int32) &&& 31))

set_option maxHeartbeats 40000000 in
theorem J_J3_wordIndex (G : zG) (h : zH) (a1 : Int32) (V : Int32) (h9 : zH) (hm : j_J3_wordIndex h a1 = some (h9, V)) : zJi G yJ3_wordIndex cJ3_wordIndex 1 (some .int) 0 0 0 [.int a1] h V h9 := by
  refine zCo.st [some (.int a1)] rfl rfl (by simp only [zarg_r, zarg_i, zarg_l, zarg_0]; rfl) (fun X o f0 hin hw0 => ?_)
  have f := f0.e
  have hin : (Xt X).name = "wordIndex" := hin
  refine (?_ : zQ (EH h) G X 0 0 0 [some (.int a1)] []) h rfl hw0
  clear hw0
  generalize hR9 : ((h9, V) : (zH × Int32)) = R at hm
  unfold j_J3_wordIndex at hm
  refine zQ.s (fun h => zs_iload_n (i := 0) o dJ3_wordIndex_0 rfl rfl) ?_
  refine zQ.s (fun h => zs_bipush (v := 6) o dJ3_wordIndex_1 (by decide)) ?_
  refine zQ.s (fun h => zs_ishr o dJ3_wordIndex_3) ?_
  refine zh_reti o f dJ3_wordIndex_4 rfl (by omega) (by omega) ((so_e hm).trans hR9.symm)

def j_J3_checkInvariants_j62 (h : zH) : Option zH :=
  none
def j_J3_checkInvariants_j110 (h : zH) : Option zH :=
  some h
def j_J3_checkInvariants_j70 (h : zH) (x0 : Nat) : Option zH :=
  if (1 : Int32) = (0 : Int32) then
    gd (kd h x0 11) <|
    gd (kd h x0 11) <|
    gd (isA h (hR h 11 0 x0)) <|
    if (hI h 11 1 x0) = (nI (zN h (hR h 11 0 x0))) then
      j_J3_checkInvariants_j110 h
    else
      gd (kd h x0 11) <|
      gd (kd h x0 11) <|
      gd (kd h (hR h 11 0 x0) 203) <|
      gd (inb (hI h 11 1 x0) (zN h (hR h 11 0 x0))) <|
      if (lg_cmp (hL h 203 (ix (hI h 11 1 x0)) (hR h 11 0 x0)) (0 : Int64)) = (0 : Int32) then
        j_J3_checkInvariants_j110 h
      else
        none
  else
    j_J3_checkInvariants_j110 h
def j_J3_checkInvariants_j37 (h : zH) (x0 : Nat) : Option zH :=
  if (1 : Int32) = (0 : Int32) then
    gd (kd h x0 11) <|
    if (hI h 11 1 x0) < (0 : Int32) then
      j_J3_checkInvariants_j62 h
    else
      gd (kd h x0 11) <|
      gd (kd h x0 11) <|
      gd (isA h (hR h 11 0 x0)) <|
      if (hI h 11 1 x0) ≤ (nI (zN h (hR h 11 0 x0))) then
        j_J3_checkInvariants_j70 h x0
      else
        j_J3_checkInvariants_j62 h
  else
    j_J3_checkInvariants_j70 h x0
def j_J3_checkInvariants (h : zH) (p : Nat) : Option zH :=
  if (1 : Int32) = (0 : Int32) then
    gd (kd h p 11) <|
    if (hI h 11 1 p) = (0 : Int32) then
      j_J3_checkInvariants_j37 h p
    else
      gd (kd h p 11) <|
      gd (kd h p 11) <|
      gd (kd h (hR h 11 0 p) 203) <|
      gd (inb ((hI h 11 1 p) - (1 : Int32)) (zN h (hR h 11 0 p))) <|
      if (lg_cmp (hL h 203 (ix ((hI h 11 1 p) - (1 : Int32))) (hR h 11 0 p)) (0 : Int64)) = (0 : Int32) then
        none
      else
        j_J3_checkInvariants_j37 h p
  else
    j_J3_checkInvariants_j37 h p

set_option maxHeartbeats 40000000 in
theorem J_J3_checkInvariants (G : zG) (h : zH) (p : Nat) (h9 : zH) (z_ad : ("java/util/BitSet", "$assertionsDisabled", "Z", .int 1) ∈ zGz G) (hm : j_J3_checkInvariants h p = some h9) : zJv G yJ3_checkInvariants cJ3_checkInvariants 1 none 0 0 0 [zrf p] h h9 := by
  refine zCo.st [some (zrf p)] rfl rfl (by simp only [zarg_r, zarg_i, zarg_l, zarg_0]; rfl) (fun X o f0 hin hw0 => ?_)
  have f := f0.e
  have hin : (Xt X).name = "checkInvariants" := hin
  refine (?_ : zQ (EH h) G X 0 0 0 [some (zrf p)] []) h rfl hw0
  clear hw0
  generalize hR9 : (h9 : zH) = R at hm
  have hj110 : ∀ (h : zH) (cl sl : Nat), cl + (0) ≤ 0 → sl + (0) ≤ 0 → j_J3_checkInvariants_j110 h = some R → zQ (EH h) G X cl sl 110 [none] [] := by
    intro h cl sl hc hs hm
    unfold j_J3_checkInvariants_j110 at hm
    refine zh_retv o f dJ3_checkInvariants_110 (by omega) (by omega) ((so_e hm).trans hR9.symm)
  have hj70 : ∀ (h : zH) (x0 : Nat) (cl sl : Nat), cl + (0) ≤ 0 → sl + (0) ≤ 0 → j_J3_checkInvariants_j70 h x0 = some R → zQ (EH h) G X cl sl 70 [some (zrf x0)] [] := by
    intro h x0 cl sl hc hs hm
    unfold j_J3_checkInvariants_j70 at hm
    refine zQ.s (fun h => zs_gets o z_ad q644 dJ3_checkInvariants_70) ?_
    refine zQ.b (fun h => zs_if_ne (tgt := 110) o dJ3_checkInvariants_73 (by decide)) (fun c => ?_) (fun c => ?_)
    · have hm := if_e2 hm c
      refine zQ.fg (zl_n zl_0) ?_
      exact hj110 _ _ _ (by omega) (by omega) hm
    · have hm := if_e1 hm c
      refine zQ.s (fun h => zs_aload_n (i := 0) o dJ3_checkInvariants_76 rfl rfl) ?_
      obtain ⟨g1, hm⟩ := gd_e hm
      refine zh_getI o g1 fl_J3_7_11 rfl dJ3_checkInvariants_77 ?_
      refine zQ.s (fun h => zs_aload_n (i := 0) o dJ3_checkInvariants_80 rfl rfl) ?_
      obtain ⟨g2, hm⟩ := gd_e hm
      refine zh_getR o g2 fl_J3_11_11 rfl dJ3_checkInvariants_81 ?_
      obtain ⟨g3, hm⟩ := gd_e hm
      refine zh_alen o g3 dJ3_checkInvariants_84 ?_
      refine zQ.b (fun h => zs_icmp_eq (tgt := 110) o dJ3_checkInvariants_85 (by decide)) (fun c => ?_) (fun c => ?_)
      · have hm := if_e1 hm c
        refine zQ.fg (zl_n zl_0) ?_
        exact hj110 _ _ _ (by omega) (by omega) hm
      · have hm := if_e2 hm c
        refine zQ.s (fun h => zs_aload_n (i := 0) o dJ3_checkInvariants_88 rfl rfl) ?_
        obtain ⟨g4, hm⟩ := gd_e hm
        refine zh_getR o g4 fl_J3_11_11 rfl dJ3_checkInvariants_89 ?_
        refine zQ.s (fun h => zs_aload_n (i := 0) o dJ3_checkInvariants_92 rfl rfl) ?_
        obtain ⟨g5, hm⟩ := gd_e hm
        refine zh_getI o g5 fl_J3_7_11 rfl dJ3_checkInvariants_93 ?_
        obtain ⟨g6, hm⟩ := gd_e hm
        obtain ⟨g7, hm⟩ := gd_e hm
        refine zh_lald o g6 g7 dJ3_checkInvariants_96 ?_
        refine zQ.s (fun h => zs_lconst (v := 0) o dJ3_checkInvariants_97 (by decide)) ?_
        refine zQ.s (fun h => zs_lcmp o dJ3_checkInvariants_98) ?_
        refine zQ.b (fun h => zs_if_eq (tgt := 110) o dJ3_checkInvariants_99 (by decide)) (fun c => ?_) (fun c => ?_)
        · have hm := if_e1 hm c
          refine zQ.fg (zl_n zl_0) ?_
          exact hj110 _ _ _ (by omega) (by omega) hm
        · have hm := if_e2 hm c
          exact no_e hm
  have hj62 : ∀ (h : zH) (cl sl : Nat), cl + (0) ≤ 0 → sl + (0) ≤ 0 → j_J3_checkInvariants_j62 h = some R → zQ (EH h) G X cl sl 62 [none] [] := by
    intro h cl sl hc hs hm
    unfold j_J3_checkInvariants_j62 at hm
    exact no_e hm
  have hj37 : ∀ (h : zH) (x0 : Nat) (cl sl : Nat), cl + (0) ≤ 0 → sl + (0) ≤ 0 → j_J3_checkInvariants_j37 h x0 = some R → zQ (EH h) G X cl sl 37 [some (zrf x0)] [] := by
    intro h x0 cl sl hc hs hm
    unfold j_J3_checkInvariants_j37 at hm
    refine zQ.s (fun h => zs_gets o z_ad q644 dJ3_checkInvariants_37) ?_
    refine zQ.b (fun h => zs_if_ne (tgt := 70) o dJ3_checkInvariants_40 (by decide)) (fun c => ?_) (fun c => ?_)
    · have hm := if_e2 hm c
      exact hj70 _ _ _ _ (by omega) (by omega) hm
    · have hm := if_e1 hm c
      refine zQ.s (fun h => zs_aload_n (i := 0) o dJ3_checkInvariants_43 rfl rfl) ?_
      obtain ⟨g1, hm⟩ := gd_e hm
      refine zh_getI o g1 fl_J3_7_11 rfl dJ3_checkInvariants_44 ?_
      refine zQ.b (fun h => zs_if_lt (tgt := 62) o dJ3_checkInvariants_47 (by decide)) (fun c => ?_) (fun c => ?_)
      · have hm := if_e1 hm c
        refine zQ.fg (zl_n zl_0) ?_
        exact hj62 _ _ _ (by omega) (by omega) hm
      · have hm := if_e2 hm c
        refine zQ.s (fun h => zs_aload_n (i := 0) o dJ3_checkInvariants_50 rfl rfl) ?_
        obtain ⟨g2, hm⟩ := gd_e hm
        refine zh_getI o g2 fl_J3_7_11 rfl dJ3_checkInvariants_51 ?_
        refine zQ.s (fun h => zs_aload_n (i := 0) o dJ3_checkInvariants_54 rfl rfl) ?_
        obtain ⟨g3, hm⟩ := gd_e hm
        refine zh_getR o g3 fl_J3_11_11 rfl dJ3_checkInvariants_55 ?_
        obtain ⟨g4, hm⟩ := gd_e hm
        refine zh_alen o g4 dJ3_checkInvariants_58 ?_
        refine zQ.b (fun h => zs_icmp_le (tgt := 70) o dJ3_checkInvariants_59 (by decide)) (fun c => ?_) (fun c => ?_)
        · have hm := if_e1 hm c
          exact hj70 _ _ _ _ (by omega) (by omega) hm
        · have hm := if_e2 hm c
          refine zQ.fg (zl_n zl_0) ?_
          exact hj62 _ _ _ (by omega) (by omega) hm
  unfold j_J3_checkInvariants at hm
  refine zQ.s (fun h => zs_gets o z_ad q644 dJ3_checkInvariants_0) ?_
  refine zQ.b (fun h => zs_if_ne (tgt := 37) o dJ3_checkInvariants_3 (by decide)) (fun c => ?_) (fun c => ?_)
  · have hm := if_e2 hm c
    exact hj37 _ _ _ _ (by omega) (by omega) hm
  · have hm := if_e1 hm c
    refine zQ.s (fun h => zs_aload_n (i := 0) o dJ3_checkInvariants_6 rfl rfl) ?_
    obtain ⟨g1, hm⟩ := gd_e hm
    refine zh_getI o g1 fl_J3_7_11 rfl dJ3_checkInvariants_7 ?_
    refine zQ.b (fun h => zs_if_eq (tgt := 37) o dJ3_checkInvariants_10 (by decide)) (fun c => ?_) (fun c => ?_)
    · have hm := if_e1 hm c
      exact hj37 _ _ _ _ (by omega) (by omega) hm
    · have hm := if_e2 hm c
      refine zQ.s (fun h => zs_aload_n (i := 0) o dJ3_checkInvariants_13 rfl rfl) ?_
      obtain ⟨g2, hm⟩ := gd_e hm
      refine zh_getR o g2 fl_J3_11_11 rfl dJ3_checkInvariants_14 ?_
      refine zQ.s (fun h => zs_aload_n (i := 0) o dJ3_checkInvariants_17 rfl rfl) ?_
      obtain ⟨g3, hm⟩ := gd_e hm
      refine zh_getI o g3 fl_J3_7_11 rfl dJ3_checkInvariants_18 ?_
      refine zQ.s (fun h => zs_iconst (v := 1) o dJ3_checkInvariants_21 (by decide)) ?_
      refine zQ.s (fun h => zs_isub o dJ3_checkInvariants_22) ?_
      obtain ⟨g4, hm⟩ := gd_e hm
      obtain ⟨g5, hm⟩ := gd_e hm
      refine zh_lald o g4 g5 dJ3_checkInvariants_23 ?_
      refine zQ.s (fun h => zs_lconst (v := 0) o dJ3_checkInvariants_24 (by decide)) ?_
      refine zQ.s (fun h => zs_lcmp o dJ3_checkInvariants_25) ?_
      refine zQ.b (fun h => zs_if_ne (tgt := 37) o dJ3_checkInvariants_26 (by decide)) (fun c => ?_) (fun c => ?_)
      · have hm := if_e2 hm c
        exact hj37 _ _ _ _ (by omega) (by omega) hm
      · have hm := if_e1 hm c
        exact no_e hm

def j_J3_recalculateWordsInUse_j31 (h : zH) (x0 : Nat) (x1 : Int32) : Option zH :=
  gd (kd h x0 11) <|
  gd (wr h x0) <|
  lt (pI h 11 1 x0 (x1 + (1 : Int32))) fun S3 =>
  some S3
def j_J3_recalculateWordsInUse_b7 (k7 : zH → Nat → Int32 → Option zH) (h : zH) (x0 : Nat) (x1 : Int32) : Option zH :=
  if x1 < (0 : Int32) then
    j_J3_recalculateWordsInUse_j31 h x0 x1
  else
    gd (kd h x0 11) <|
    gd (kd h (hR h 11 0 x0) 203) <|
    gd (inb x1 (zN h (hR h 11 0 x0))) <|
    if (lg_cmp (hL h 203 (ix x1) (hR h 11 0 x0)) (0 : Int64)) = (0 : Int32) then
      k7 h x0 (x1 + (-1 : Int32))
    else
      j_J3_recalculateWordsInUse_j31 h x0 x1
def j_J3_recalculateWordsInUse_l7 : Nat → zH → Nat → Int32 → Option zH
  | 0 => fun _ _ _ => none
  | n + 1 => j_J3_recalculateWordsInUse_b7 (j_J3_recalculateWordsInUse_l7 n)
def j_J3_recalculateWordsInUse (h : zH) (p : Nat) : Option zH :=
  gd (kd h p 11) <|
  lt ((hI h 11 1 p) - (1 : Int32)) fun v2 =>
  j_J3_recalculateWordsInUse_l7 100 h p v2

set_option maxHeartbeats 40000000 in
theorem J_J3_recalculateWordsInUse (G : zG) (h : zH) (p : Nat) (h9 : zH) (hm : j_J3_recalculateWordsInUse h p = some h9) : zJv G yJ3_recalculateWordsInUse cJ3_recalculateWordsInUse 2 none 0 0 0 [zrf p] h h9 := by
  refine zCo.st [some (zrf p), none] rfl rfl (by simp only [zarg_r, zarg_i, zarg_l, zarg_0]; rfl) (fun X o f0 hin hw0 => ?_)
  have f := f0.e
  have hin : (Xt X).name = "recalculateWordsInUse" := hin
  refine (?_ : zQ (EH h) G X 0 0 0 [some (zrf p), none] []) h rfl hw0
  clear hw0
  generalize hR9 : (h9 : zH) = R at hm
  have hj31 : ∀ (h : zH) (x0 : Nat) (x1 : Int32) (cl sl : Nat), cl + (0) ≤ 0 → sl + (0) ≤ 0 → j_J3_recalculateWordsInUse_j31 h x0 x1 = some R → zQ (EH h) G X cl sl 31 [some (zrf x0), some (.int x1)] [] := by
    intro h x0 x1 cl sl hc hs hm
    unfold j_J3_recalculateWordsInUse_j31 at hm
    refine zQ.s (fun h => zs_aload_n (i := 0) o dJ3_recalculateWordsInUse_31 rfl rfl) ?_
    refine zQ.s (fun h => zs_iload_n (i := 1) o dJ3_recalculateWordsInUse_32 rfl rfl) ?_
    refine zQ.s (fun h => zs_iconst (v := 1) o dJ3_recalculateWordsInUse_33 (by decide)) ?_
    refine zQ.s (fun h => zs_iadd o dJ3_recalculateWordsInUse_34) ?_
    obtain ⟨g1, hm⟩ := gd_e hm
    obtain ⟨g2, hm⟩ := gd_e hm
    obtain ⟨S3, e_S3, hm⟩ := lt_e hm
    refine zh_putI o g1 g2 fl_J3_7_11 rfl rfl ⟨rfl, rfl⟩ dJ3_recalculateWordsInUse_35 e_S3 ?_
    refine zh_retv o f dJ3_recalculateWordsInUse_38 (by omega) (by omega) ((so_e hm).trans hR9.symm)
  have hl7 : ∀ (n7 : Nat), n7 ≤ 100 → ∀ (h : zH) (x0 : Nat) (x1 : Int32) (cl sl : Nat), cl + (0) ≤ 0 → sl + (0) ≤ 0 → j_J3_recalculateWordsInUse_l7 n7 h x0 x1 = some R → zQ (EH h) G X cl sl 7 [some (zrf x0), some (.int x1)] [] := by
    intro n7
    induction n7 with
    | zero => intro _ h x0 x1 cl sl _ _ hm; exact no_e hm
    | succ n7 ih =>
      intro hf7
      have ih7 := ih (by omega)
      intro h x0 x1 cl sl hc hs hm
      have hm : j_J3_recalculateWordsInUse_b7 (j_J3_recalculateWordsInUse_l7 n7) h x0 x1 = some R := hm
      unfold j_J3_recalculateWordsInUse_b7 at hm
      refine zQ.s (fun h => zs_iload_n (i := 1) o dJ3_recalculateWordsInUse_7 rfl rfl) ?_
      refine zQ.b (fun h => zs_if_lt (tgt := 31) o dJ3_recalculateWordsInUse_8 (by decide)) (fun c => ?_) (fun c => ?_)
      · have hm := if_e1 hm c
        exact hj31 _ _ _ _ _ (by omega) (by omega) hm
      · have hm := if_e2 hm c
        refine zQ.s (fun h => zs_aload_n (i := 0) o dJ3_recalculateWordsInUse_11 rfl rfl) ?_
        obtain ⟨g1, hm⟩ := gd_e hm
        refine zh_getR o g1 fl_J3_11_11 rfl dJ3_recalculateWordsInUse_12 ?_
        refine zQ.s (fun h => zs_iload_n (i := 1) o dJ3_recalculateWordsInUse_15 rfl rfl) ?_
        obtain ⟨g2, hm⟩ := gd_e hm
        obtain ⟨g3, hm⟩ := gd_e hm
        refine zh_lald o g2 g3 dJ3_recalculateWordsInUse_16 ?_
        refine zQ.s (fun h => zs_lconst (v := 0) o dJ3_recalculateWordsInUse_17 (by decide)) ?_
        refine zQ.s (fun h => zs_lcmp o dJ3_recalculateWordsInUse_18) ?_
        refine zQ.b (fun h => zs_if_eq (tgt := 25) o dJ3_recalculateWordsInUse_19 (by decide)) (fun c => ?_) (fun c => ?_)
        · have hm := if_e1 hm c
          refine zQ.s (fun h => zs_iinc (i := 1) (v := x1 + (-1 : Int32)) o dJ3_recalculateWordsInUse_25 rfl rfl (by decide) (Or.inr (zc2_ref rfl)) (by simp only [List.set_cons_succ, List.set_cons_zero]; rfl)) ?_
          refine zQ.s (fun h => zs_goto (tgt := 7) o dJ3_recalculateWordsInUse_28 (by decide)) ?_
          exact ih7 _ _ _ _ _ (by omega) (by omega) hm
        · have hm := if_e2 hm c
          refine zQ.s (fun h => zs_goto (tgt := 31) o dJ3_recalculateWordsInUse_22 (by decide)) ?_
          exact hj31 _ _ _ _ _ (by omega) (by omega) hm
  unfold j_J3_recalculateWordsInUse at hm
  refine zQ.s (fun h => zs_aload_n (i := 0) o dJ3_recalculateWordsInUse_0 rfl rfl) ?_
  obtain ⟨g1, hm⟩ := gd_e hm
  refine zh_getI o g1 fl_J3_7_11 rfl dJ3_recalculateWordsInUse_1 ?_
  refine zQ.s (fun h => zs_iconst (v := 1) o dJ3_recalculateWordsInUse_4 (by decide)) ?_
  refine zQ.s (fun h => zs_isub o dJ3_recalculateWordsInUse_5) ?_
  obtain ⟨v2, e_v2, hm⟩ := lt_e hm
  refine zQ.nmi e_v2 ?_
  refine zQ.s (fun h => zs_istore_n (i := 1) o dJ3_recalculateWordsInUse_6 rfl (by decide) (Or.inr (zc2_ref rfl)) (by simp only [List.set_cons_succ, List.set_cons_zero]; rfl)) ?_
  exact hl7 100 (Nat.le_refl _) _ _ _ _ _ (by omega) (by omega) hm

def j_J3_ensureCapacity_j38 (h : zH) : Option zH :=
  some h
def j_J3_ensureCapacity (h : zH) (p : Nat) (a1 : Int32) : Option zH :=
  gd (kd h p 11) <|
  gd (isA h (hR h 11 0 p)) <|
  if a1 ≤ (nI (zN h (hR h 11 0 p))) then
    j_J3_ensureCapacity_j38 h
  else
    gd (kd h p 11) <|
    gd (isA h (hR h 11 0 p)) <|
    lt (imx ((2 : Int32) * (nI (zN h (hR h 11 0 p)))) a1) fun v5 =>
    gd (kd h p 11) <|
    none

set_option maxHeartbeats 40000000 in
theorem J_J3_ensureCapacity (G : zG) (h : zH) (p : Nat) (a1 : Int32) (h9 : zH) (hm : j_J3_ensureCapacity h p a1 = some h9) : zJv G yJ3_ensureCapacity cJ3_ensureCapacity 3 none 1 0 0 [zrf p, .int a1] h h9 := by
  refine zCo.st [some (zrf p), some (.int a1), none] rfl rfl (by simp only [zarg_r, zarg_i, zarg_l, zarg_0]; rfl) (fun X o f0 hin hw0 => ?_)
  have f := f0.e
  have hin : (Xt X).name = "ensureCapacity" := hin
  refine (?_ : zQ (EH h) G X 0 0 0 [some (zrf p), some (.int a1), none] []) h rfl hw0
  clear hw0
  generalize hR9 : (h9 : zH) = R at hm
  have hj38 : ∀ (h : zH) (cl sl : Nat), cl + (0) ≤ 0 → sl + (0) ≤ 0 → j_J3_ensureCapacity_j38 h = some R → zQ (EH h) G X cl sl 38 [none, none, none] [] := by
    intro h cl sl hc hs hm
    unfold j_J3_ensureCapacity_j38 at hm
    refine zh_retv o f dJ3_ensureCapacity_38 (by omega) (by omega) ((so_e hm).trans hR9.symm)
  unfold j_J3_ensureCapacity at hm
  refine zQ.s (fun h => zs_aload_n (i := 0) o dJ3_ensureCapacity_0 rfl rfl) ?_
  obtain ⟨g1, hm⟩ := gd_e hm
  refine zh_getR o g1 fl_J3_11_11 rfl dJ3_ensureCapacity_1 ?_
  obtain ⟨g2, hm⟩ := gd_e hm
  refine zh_alen o g2 dJ3_ensureCapacity_4 ?_
  refine zQ.s (fun h => zs_iload_n (i := 1) o dJ3_ensureCapacity_5 rfl rfl) ?_
  refine zQ.b (fun h => zs_icmp_ge (tgt := 38) o dJ3_ensureCapacity_6 (by decide)) (fun c => ?_) (fun c => ?_)
  · have hm := if_e1 hm c
    refine zQ.fg (zl_n (zl_n (zl_n zl_0))) ?_
    exact hj38 _ _ _ (by omega) (by omega) hm
  · have hm := if_e2 hm c
    refine zQ.s (fun h => zs_iconst (v := 2) o dJ3_ensureCapacity_9 (by decide)) ?_
    refine zQ.s (fun h => zs_aload_n (i := 0) o dJ3_ensureCapacity_10 rfl rfl) ?_
    obtain ⟨g3, hm⟩ := gd_e hm
    refine zh_getR o g3 fl_J3_11_11 rfl dJ3_ensureCapacity_11 ?_
    obtain ⟨g4, hm⟩ := gd_e hm
    refine zh_alen o g4 dJ3_ensureCapacity_14 ?_
    refine zQ.s (fun h => zs_imul o dJ3_ensureCapacity_15) ?_
    refine zQ.s (fun h => zs_iload_n (i := 1) o dJ3_ensureCapacity_16 rfl rfl) ?_
    refine zQ.s (fun h => zs_mmax o q631 q403 q127 q404 rfl rfl (by omega) (by omega) dJ3_ensureCapacity_17) ?_
    obtain ⟨v5, e_v5, hm⟩ := lt_e hm
    refine zQ.nmi e_v5 ?_
    refine zQ.s (fun h => zs_istore_n (i := 2) o dJ3_ensureCapacity_20 rfl (by decide) (Or.inr rfl) (by simp only [List.set_cons_succ, List.set_cons_zero]; rfl)) ?_
    refine zQ.s (fun h => zs_aload_n (i := 0) o dJ3_ensureCapacity_21 rfl rfl) ?_
    refine zQ.s (fun h => zs_aload_n (i := 0) o dJ3_ensureCapacity_22 rfl rfl) ?_
    obtain ⟨g6, hm⟩ := gd_e hm
    refine zh_getR o g6 fl_J3_11_11 rfl dJ3_ensureCapacity_23 ?_
    refine zQ.s (fun h => zs_iload_n (i := 2) o dJ3_ensureCapacity_26 rfl rfl) ?_
    exact no_e hm

def j_J3_expandTo_j22 (h : zH) : Option zH :=
  some h
def j_J3_expandTo (h : zH) (p : Nat) (a1 : Int32) : Option zH :=
  lt (a1 + (1 : Int32)) fun v1 =>
  gd (kd h p 11) <|
  if v1 ≤ (hI h 11 1 p) then
    j_J3_expandTo_j22 h
  else
    gd (kd h p 11) <|
    bd (j_J3_ensureCapacity h p v1) fun y4 =>
    gd (kd y4 p 11) <|
    gd (wr y4 p) <|
    lt (pI y4 11 1 p v1) fun S7 =>
    j_J3_expandTo_j22 S7

set_option maxHeartbeats 40000000 in
theorem J_J3_expandTo (G : zG) (h : zH) (p : Nat) (a1 : Int32) (h9 : zH) (hm : j_J3_expandTo h p a1 = some h9) : zJv G yJ3_expandTo cJ3_expandTo 3 none 2 0 0 [zrf p, .int a1] h h9 := by
  refine zCo.st [some (zrf p), some (.int a1), none] rfl rfl (by simp only [zarg_r, zarg_i, zarg_l, zarg_0]; rfl) (fun X o f0 hin hw0 => ?_)
  have f := f0.e
  have hin : (Xt X).name = "expandTo" := hin
  refine (?_ : zQ (EH h) G X 0 0 0 [some (zrf p), some (.int a1), none] []) h rfl hw0
  clear hw0
  generalize hR9 : (h9 : zH) = R at hm
  have hj22 : ∀ (h : zH) (cl sl : Nat), cl + (0) ≤ 0 → sl + (0) ≤ 0 → j_J3_expandTo_j22 h = some R → zQ (EH h) G X cl sl 22 [none, none, none] [] := by
    intro h cl sl hc hs hm
    unfold j_J3_expandTo_j22 at hm
    refine zh_retv o f dJ3_expandTo_22 (by omega) (by omega) ((so_e hm).trans hR9.symm)
  unfold j_J3_expandTo at hm
  refine zQ.s (fun h => zs_iload_n (i := 1) o dJ3_expandTo_0 rfl rfl) ?_
  refine zQ.s (fun h => zs_iconst (v := 1) o dJ3_expandTo_1 (by decide)) ?_
  refine zQ.s (fun h => zs_iadd o dJ3_expandTo_2) ?_
  obtain ⟨v1, e_v1, hm⟩ := lt_e hm
  refine zQ.nmi e_v1 ?_
  refine zQ.s (fun h => zs_istore_n (i := 2) o dJ3_expandTo_3 rfl (by decide) (Or.inr rfl) (by simp only [List.set_cons_succ, List.set_cons_zero]; rfl)) ?_
  refine zQ.s (fun h => zs_aload_n (i := 0) o dJ3_expandTo_4 rfl rfl) ?_
  obtain ⟨g2, hm⟩ := gd_e hm
  refine zh_getI o g2 fl_J3_7_11 rfl dJ3_expandTo_5 ?_
  refine zQ.s (fun h => zs_iload_n (i := 2) o dJ3_expandTo_8 rfl rfl) ?_
  refine zQ.b (fun h => zs_icmp_ge (tgt := 22) o dJ3_expandTo_9 (by decide)) (fun c => ?_) (fun c => ?_)
  · have hm := if_e1 hm c
    refine zQ.fg (zl_n (zl_n (zl_n zl_0))) ?_
    exact hj22 _ _ _ (by omega) (by omega) hm
  · have hm := if_e2 hm c
    refine zQ.s (fun h => zs_aload_n (i := 0) o dJ3_expandTo_12 rfl rfl) ?_
    refine zQ.s (fun h => zs_iload_n (i := 2) o dJ3_expandTo_13 rfl rfl) ?_
    obtain ⟨g3, hm⟩ := gd_e hm
    obtain ⟨y4, c_y4, hm⟩ := bd_e hm
    refine zh_Vv o g3 ml_J3_139 (J_J3_ensureCapacity G _ _ _ _  c_y4) dJ3_expandTo_14 rfl rfl rfl rfl (by omega) (by omega) ?_
    refine zQ.s (fun h => zs_aload_n (i := 0) o dJ3_expandTo_17 rfl rfl) ?_
    refine zQ.s (fun h => zs_iload_n (i := 2) o dJ3_expandTo_18 rfl rfl) ?_
    obtain ⟨g5, hm⟩ := gd_e hm
    obtain ⟨g6, hm⟩ := gd_e hm
    obtain ⟨S7, e_S7, hm⟩ := lt_e hm
    refine zh_putI o g5 g6 fl_J3_7_11 rfl rfl ⟨rfl, rfl⟩ dJ3_expandTo_19 e_S7 ?_
    refine zQ.fg (zl_n (zl_n (zl_n zl_0))) ?_
    exact hj22 _ _ _ (by omega) (by omega) hm

def j_J3_initWords (h : zH) (p : Nat) (a1 : Int32) : Option zH :=
  bd (j_J3_wordIndex h (a1 - (1 : Int32))) fun y1 =>
  lt (zT y1.1 + 1) fun r2 =>
  gd (asz (y1.2 + (1 : Int32)) 1) <|
  lt (nw y1.1 203 (rl y1.1 p) (ix (y1.2 + (1 : Int32)))) fun S4 =>
  gd (kd S4 p 11) <|
  gd (wr S4 p) <|
  lt (pR S4 11 0 p r2) fun S7 =>
  some S7

set_option maxHeartbeats 40000000 in
theorem J_J3_initWords (G : zG) (h : zH) (p : Nat) (a1 : Int32) (h9 : zH) (hm : j_J3_initWords h p a1 = some h9) : zJv G yJ3_initWords cJ3_initWords 2 none 1 1 1 [zrf p, .int a1] h h9 := by
  refine zCo.st [some (zrf p), some (.int a1)] rfl rfl (by simp only [zarg_r, zarg_i, zarg_l, zarg_0]; rfl) (fun X o f0 hin hw0 => ?_)
  have f := f0.e
  have hin : (Xt X).name = "initWords" := hin
  refine (?_ : zQ (EH h) G X 0 0 0 [some (zrf p), some (.int a1)] []) h rfl hw0
  clear hw0
  generalize hR9 : (h9 : zH) = R at hm
  unfold j_J3_initWords at hm
  refine zQ.s (fun h => zs_aload_n (i := 0) o dJ3_initWords_0 rfl rfl) ?_
  refine zQ.s (fun h => zs_iload_n (i := 1) o dJ3_initWords_1 rfl rfl) ?_
  refine zQ.s (fun h => zs_iconst (v := 1) o dJ3_initWords_2 (by decide)) ?_
  refine zQ.s (fun h => zs_isub o dJ3_initWords_3) ?_
  obtain ⟨y1, c_y1, hm⟩ := bd_e hm
  refine zh_Si o ml_J3_52 (J_J3_wordIndex G _ _ _ _  c_y1) dJ3_initWords_4 rfl rfl rfl rfl (by omega) (by omega) ?_
  refine zQ.s (fun h => zs_iconst (v := 1) o dJ3_initWords_7 (by decide)) ?_
  refine zQ.s (fun h => zs_iadd o dJ3_initWords_8) ?_
  obtain ⟨r2, e_r2, hm⟩ := lt_e hm
  obtain ⟨g3, hm⟩ := gd_e hm
  have hz_g3 := asz_m g3
  obtain ⟨S4, e_S4, hm⟩ := lt_e hm
  refine zh_newarr (c := 203) o (by decide) rfl q246 (asz_n g3) rfl (Nat.le_trans (asz_m g3) (by decide)) dJ3_initWords_9 (by omega) (by omega) e_S4 ?_
  refine zQ.nmr e_r2 ?_
  obtain ⟨g5, hm⟩ := gd_e hm
  obtain ⟨g6, hm⟩ := gd_e hm
  obtain ⟨S7, e_S7, hm⟩ := lt_e hm
  refine zh_putR o g5 g6 fl_J3_11_11 rfl rfl dJ3_initWords_11 e_S7 ?_
  refine zh_retv o f dJ3_initWords_14 (by omega) (by omega) ((so_e hm).trans hR9.symm)

def j_J3_init (h : zH) (p : Nat) : Option zH :=
  gd (nzr p) <|
  gd (kd h p 11) <|
  gd (wr h p) <|
  lt (pI h 11 1 p (0 : Int32)) fun S4 =>
  gd (kd S4 p 11) <|
  gd (wr S4 p) <|
  lt (pI S4 11 2 p (0 : Int32)) fun S7 =>
  gd (kd S7 p 11) <|
  bd (j_J3_initWords S7 p (64 : Int32)) fun y9 =>
  gd (kd y9 p 11) <|
  gd (wr y9 p) <|
  lt (pI y9 11 2 p (0 : Int32)) fun S12 =>
  some S12

set_option maxHeartbeats 40000000 in
theorem J_J3_init (G : zG) (h : zH) (p : Nat) (h9 : zH) (hm : j_J3_init h p = some h9) : zJv G yJ3_init cJ3_init 1 none 2 1 1 [zrf p] h h9 := by
  refine zCo.st [some (zrf p)] rfl rfl (by simp only [zarg_r, zarg_i, zarg_l, zarg_0]; rfl) (fun X o f0 hin hw0 => ?_)
  have f := f0.e
  have hin : (Xt X).name = "<init>" := hin
  refine (?_ : zQ (EH h) G X 0 0 0 [some (zrf p)] []) h rfl hw0
  clear hw0
  generalize hR9 : (h9 : zH) = R at hm
  unfold j_J3_init at hm
  refine zQ.s (fun h => zs_aload_n (i := 0) o dJ3_init_0 rfl rfl) ?_
  obtain ⟨g1, hm⟩ := gd_e hm
  refine zh_objInit o g1 q228 q163 q164 dJ3_init_1 rfl rfl ?_
  refine zQ.s (fun h => zs_aload_n (i := 0) o dJ3_init_4 rfl rfl) ?_
  refine zQ.s (fun h => zs_iconst (v := 0) o dJ3_init_5 (by decide)) ?_
  obtain ⟨g2, hm⟩ := gd_e hm
  obtain ⟨g3, hm⟩ := gd_e hm
  obtain ⟨S4, e_S4, hm⟩ := lt_e hm
  refine zh_putI o g2 g3 fl_J3_7_11 rfl rfl ⟨rfl, rfl⟩ dJ3_init_6 e_S4 ?_
  refine zQ.s (fun h => zs_aload_n (i := 0) o dJ3_init_9 rfl rfl) ?_
  refine zQ.s (fun h => zs_iconst (v := 0) o dJ3_init_10 (by decide)) ?_
  obtain ⟨g5, hm⟩ := gd_e hm
  obtain ⟨g6, hm⟩ := gd_e hm
  obtain ⟨S7, e_S7, hm⟩ := lt_e hm
  refine zh_putI o g5 g6 fl_J3_24_11 rfl rfl ⟨rfl, rfl⟩ dJ3_init_11 e_S7 ?_
  refine zQ.s (fun h => zs_aload_n (i := 0) o dJ3_init_14 rfl rfl) ?_
  refine zQ.s (fun h => zs_bipush (v := 64) o dJ3_init_15 (by decide)) ?_
  obtain ⟨g8, hm⟩ := gd_e hm
  obtain ⟨y9, c_y9, hm⟩ := bd_e hm
  refine zh_Vv o g8 ml_J3_27 (J_J3_initWords G _ _ _ _  c_y9) dJ3_init_17 rfl rfl rfl rfl (by omega) (by omega) ?_
  refine zQ.s (fun h => zs_aload_n (i := 0) o dJ3_init_20 rfl rfl) ?_
  refine zQ.s (fun h => zs_iconst (v := 0) o dJ3_init_21 (by decide)) ?_
  obtain ⟨g10, hm⟩ := gd_e hm
  obtain ⟨g11, hm⟩ := gd_e hm
  obtain ⟨S12, e_S12, hm⟩ := lt_e hm
  refine zh_putI o g10 g11 fl_J3_24_11 rfl rfl ⟨rfl, rfl⟩ dJ3_init_22 e_S12 ?_
  refine zh_retv o f dJ3_init_25 (by omega) (by omega) ((so_e hm).trans hR9.symm)

def j_J3_set (h : zH) (p : Nat) (a1 : Int32) : Option zH :=
  if (0 : Int32) ≤ a1 then
    bd (j_J3_wordIndex h a1) fun y1 =>
    gd (kd y1.1 p 11) <|
    bd (j_J3_expandTo y1.1 p y1.2) fun y3 =>
    gd (kd y3 p 11) <|
    gd (kd y3 (hR y3 11 0 p) 203) <|
    gd (inb y1.2 (zN y3 (hR y3 11 0 p))) <|
    gd (kd y3 (hR y3 11 0 p) 203) <|
    gd (wr y3 (hR y3 11 0 p)) <|
    gd (inb y1.2 (zN y3 (hR y3 11 0 p))) <|
    lt (pL y3 203 (ix y1.2) (hR y3 11 0 p) ((hL y3 203 (ix y1.2) (hR y3 11 0 p)) ||| ((1 : Int64) <<< (a1.toInt64 &&& 63)))) fun S10 =>
    gd (kd S10 p 11) <|
    bd (j_J3_checkInvariants S10 p) fun y12 =>
    some y12
  else
    none

set_option maxHeartbeats 40000000 in
theorem J_J3_set (G : zG) (h : zH) (p : Nat) (a1 : Int32) (h9 : zH) (z_ad : ("java/util/BitSet", "$assertionsDisabled", "Z", .int 1) ∈ zGz G) (hm : j_J3_set h p a1 = some h9) : zJv G yJ3_set cJ3_set 3 none 3 0 0 [zrf p, .int a1] h h9 := by
  refine zCo.st [some (zrf p), some (.int a1), none] rfl rfl (by simp only [zarg_r, zarg_i, zarg_l, zarg_0]; rfl) (fun X o f0 hin hw0 => ?_)
  have f := f0.e
  have hin : (Xt X).name = "set" := hin
  refine (?_ : zQ (EH h) G X 0 0 0 [some (zrf p), some (.int a1), none] []) h rfl hw0
  clear hw0
  generalize hR9 : (h9 : zH) = R at hm
  unfold j_J3_set at hm
  refine zQ.s (fun h => zs_iload_n (i := 1) o dJ3_set_0 rfl rfl) ?_
  refine zQ.b (fun h => zs_if_ge (tgt := 31) o dJ3_set_1 (by decide)) (fun c => ?_) (fun c => ?_)
  · have hm := if_e1 hm c
    refine zQ.s (fun h => zs_iload_n (i := 1) o dJ3_set_31 rfl rfl) ?_
    obtain ⟨y1, c_y1, hm⟩ := bd_e hm
    refine zh_Si o ml_J3_52 (J_J3_wordIndex G _ _ _ _  c_y1) dJ3_set_32 rfl rfl rfl rfl (by omega) (by omega) ?_
    refine zQ.s (fun h => zs_istore_n (i := 2) o dJ3_set_35 rfl (by decide) (Or.inr rfl) (by simp only [List.set_cons_succ, List.set_cons_zero]; rfl)) ?_
    refine zQ.s (fun h => zs_aload_n (i := 0) o dJ3_set_36 rfl rfl) ?_
    refine zQ.s (fun h => zs_iload_n (i := 2) o dJ3_set_37 rfl rfl) ?_
    obtain ⟨g2, hm⟩ := gd_e hm
    obtain ⟨y3, c_y3, hm⟩ := bd_e hm
    refine zh_Vv o g2 ml_J3_155 (J_J3_expandTo G _ _ _ _  c_y3) dJ3_set_38 rfl rfl rfl rfl (by omega) (by omega) ?_
    refine zQ.s (fun h => zs_aload_n (i := 0) o dJ3_set_41 rfl rfl) ?_
    obtain ⟨g4, hm⟩ := gd_e hm
    refine zh_getR o g4 fl_J3_11_11 rfl dJ3_set_42 ?_
    refine zQ.s (fun h => zs_iload_n (i := 2) o dJ3_set_45 rfl rfl) ?_
    refine zQ.s (fun h => zs_dup2_11 o dJ3_set_46 (by first | rfl | exact zrf_cat _) (by first | rfl | exact zrf_cat _)) ?_
    obtain ⟨g5, hm⟩ := gd_e hm
    obtain ⟨g6, hm⟩ := gd_e hm
    refine zh_lald o g5 g6 dJ3_set_47 ?_
    refine zQ.s (fun h => zs_lconst (v := 1) o dJ3_set_48 (by decide)) ?_
    refine zQ.s (fun h => zs_iload_n (i := 1) o dJ3_set_49 rfl rfl) ?_
    refine zQ.s (fun h => zs_lshl o dJ3_set_50 rfl) ?_
    refine zQ.s (fun h => zs_lor o dJ3_set_51) ?_
    obtain ⟨g7, hm⟩ := gd_e hm
    obtain ⟨g8, hm⟩ := gd_e hm
    obtain ⟨g9, hm⟩ := gd_e hm
    obtain ⟨S10, e_S10, hm⟩ := lt_e hm
    refine zh_last o g7 g8 g9 dJ3_set_52 e_S10 ?_
    refine zQ.s (fun h => zs_aload_n (i := 0) o dJ3_set_53 rfl rfl) ?_
    obtain ⟨g11, hm⟩ := gd_e hm
    obtain ⟨y12, c_y12, hm⟩ := bd_e hm
    refine zh_Vv o g11 ml_J3_56 (J_J3_checkInvariants G _ _ _ z_ad c_y12) dJ3_set_54 rfl rfl rfl rfl (by omega) (by omega) ?_
    refine zh_retv o f dJ3_set_57 (by omega) (by omega) ((so_e hm).trans hR9.symm)
  · have hm := if_e2 hm c
    exact no_e hm

def j_J3_get_j68 (h : zH) (s0 : Int32) : Option (zH × Int32) :=
  gd (b01 s0) <|
  some (h, s0)
def j_J3_get_j67 (h : zH) : Option (zH × Int32) :=
  j_J3_get_j68 h (0 : Int32)
def j_J3_get (h : zH) (p : Nat) (a1 : Int32) : Option (zH × Int32) :=
  if (0 : Int32) ≤ a1 then
    gd (kd h p 11) <|
    bd (j_J3_checkInvariants h p) fun y2 =>
    bd (j_J3_wordIndex y2 a1) fun y3 =>
    gd (kd y3.1 p 11) <|
    if (hI y3.1 11 1 p) ≤ y3.2 then
      j_J3_get_j67 y3.1
    else
      gd (kd y3.1 p 11) <|
      gd (kd y3.1 (hR y3.1 11 0 p) 203) <|
      gd (inb y3.2 (zN y3.1 (hR y3.1 11 0 p))) <|
      if (lg_cmp ((hL y3.1 203 (ix y3.2) (hR y3.1 11 0 p)) &&& ((1 : Int64) <<< (a1.toInt64 &&& 63))) (0 : Int64)) = (0 : Int32) then
        j_J3_get_j67 y3.1
      else
        j_J3_get_j68 y3.1 (1 : Int32)
  else
    none

set_option maxHeartbeats 40000000 in
theorem J_J3_get (G : zG) (h : zH) (p : Nat) (a1 : Int32) (V : Int32) (h9 : zH) (z_ad : ("java/util/BitSet", "$assertionsDisabled", "Z", .int 1) ∈ zGz G) (hm : j_J3_get h p a1 = some (h9, V)) : zJi G yJ3_get cJ3_get 3 (some .boolean) 1 0 0 [zrf p, .int a1] h V h9 := by
  refine zCo.st [some (zrf p), some (.int a1), none] rfl rfl (by simp only [zarg_r, zarg_i, zarg_l, zarg_0]; rfl) (fun X o f0 hin hw0 => ?_)
  have f := f0.e
  have hin : (Xt X).name = "get" := hin
  refine (?_ : zQ (EH h) G X 0 0 0 [some (zrf p), some (.int a1), none] []) h rfl hw0
  clear hw0
  generalize hR9 : ((h9, V) : (zH × Int32)) = R at hm
  have hj68 : ∀ (h : zH) (s0 : Int32) (cl sl : Nat), cl + (0) ≤ 0 → sl + (0) ≤ 0 → j_J3_get_j68 h s0 = some R → zQ (EH h) G X cl sl 68 [none, none, none] [.int s0] := by
    intro h s0 cl sl hc hs hm
    unfold j_J3_get_j68 at hm
    obtain ⟨g1, hm⟩ := gd_e hm
    refine zh_reti o f dJ3_get_68 (b01_e g1).1 (by omega) (by omega) ((so_e hm).trans hR9.symm)
  have hj67 : ∀ (h : zH) (cl sl : Nat), cl + (0) ≤ 0 → sl + (0) ≤ 0 → j_J3_get_j67 h = some R → zQ (EH h) G X cl sl 67 [none, none, none] [] := by
    intro h cl sl hc hs hm
    unfold j_J3_get_j67 at hm
    refine zQ.s (fun h => zs_iconst (v := 0) o dJ3_get_67 (by decide)) ?_
    exact hj68 _ _ _ _ (by omega) (by omega) hm
  unfold j_J3_get at hm
  refine zQ.s (fun h => zs_iload_n (i := 1) o dJ3_get_0 rfl rfl) ?_
  refine zQ.b (fun h => zs_if_ge (tgt := 31) o dJ3_get_1 (by decide)) (fun c => ?_) (fun c => ?_)
  · have hm := if_e1 hm c
    refine zQ.s (fun h => zs_aload_n (i := 0) o dJ3_get_31 rfl rfl) ?_
    obtain ⟨g1, hm⟩ := gd_e hm
    obtain ⟨y2, c_y2, hm⟩ := bd_e hm
    refine zh_Vv o g1 ml_J3_56 (J_J3_checkInvariants G _ _ _ z_ad c_y2) dJ3_get_32 rfl rfl rfl rfl (by omega) (by omega) ?_
    refine zQ.s (fun h => zs_iload_n (i := 1) o dJ3_get_35 rfl rfl) ?_
    obtain ⟨y3, c_y3, hm⟩ := bd_e hm
    refine zh_Si o ml_J3_52 (J_J3_wordIndex G _ _ _ _  c_y3) dJ3_get_36 rfl rfl rfl rfl (by omega) (by omega) ?_
    refine zQ.s (fun h => zs_istore_n (i := 2) o dJ3_get_39 rfl (by decide) (Or.inr rfl) (by simp only [List.set_cons_succ, List.set_cons_zero]; rfl)) ?_
    refine zQ.s (fun h => zs_iload_n (i := 2) o dJ3_get_40 rfl rfl) ?_
    refine zQ.s (fun h => zs_aload_n (i := 0) o dJ3_get_41 rfl rfl) ?_
    obtain ⟨g4, hm⟩ := gd_e hm
    refine zh_getI o g4 fl_J3_7_11 rfl dJ3_get_42 ?_
    refine zQ.b (fun h => zs_icmp_ge (tgt := 67) o dJ3_get_45 (by decide)) (fun c => ?_) (fun c => ?_)
    · have hm := if_e1 hm c
      refine zQ.fg (zl_n (zl_n (zl_n zl_0))) ?_
      exact hj67 _ _ _ (by omega) (by omega) hm
    · have hm := if_e2 hm c
      refine zQ.s (fun h => zs_aload_n (i := 0) o dJ3_get_48 rfl rfl) ?_
      obtain ⟨g5, hm⟩ := gd_e hm
      refine zh_getR o g5 fl_J3_11_11 rfl dJ3_get_49 ?_
      refine zQ.s (fun h => zs_iload_n (i := 2) o dJ3_get_52 rfl rfl) ?_
      obtain ⟨g6, hm⟩ := gd_e hm
      obtain ⟨g7, hm⟩ := gd_e hm
      refine zh_lald o g6 g7 dJ3_get_53 ?_
      refine zQ.s (fun h => zs_lconst (v := 1) o dJ3_get_54 (by decide)) ?_
      refine zQ.s (fun h => zs_iload_n (i := 1) o dJ3_get_55 rfl rfl) ?_
      refine zQ.s (fun h => zs_lshl o dJ3_get_56 rfl) ?_
      refine zQ.s (fun h => zs_land o dJ3_get_57) ?_
      refine zQ.s (fun h => zs_lconst (v := 0) o dJ3_get_58 (by decide)) ?_
      refine zQ.s (fun h => zs_lcmp o dJ3_get_59) ?_
      refine zQ.b (fun h => zs_if_eq (tgt := 67) o dJ3_get_60 (by decide)) (fun c => ?_) (fun c => ?_)
      · have hm := if_e1 hm c
        refine zQ.fg (zl_n (zl_n (zl_n zl_0))) ?_
        exact hj67 _ _ _ (by omega) (by omega) hm
      · have hm := if_e2 hm c
        refine zQ.s (fun h => zs_iconst (v := 1) o dJ3_get_63 (by decide)) ?_
        refine zQ.s (fun h => zs_goto (tgt := 68) o dJ3_get_64 (by decide)) ?_
        refine zQ.fg (zl_n (zl_n (zl_n zl_0))) ?_
        exact hj68 _ _ _ _ (by omega) (by omega) hm
  · have hm := if_e2 hm c
    exact no_e hm

def j_J3_clear (h : zH) (p : Nat) (a1 : Int32) : Option zH :=
  if (0 : Int32) ≤ a1 then
    bd (j_J3_wordIndex h a1) fun y1 =>
    gd (kd y1.1 p 11) <|
    if y1.2 < (hI y1.1 11 1 p) then
      gd (kd y1.1 p 11) <|
      gd (kd y1.1 (hR y1.1 11 0 p) 203) <|
      gd (inb y1.2 (zN y1.1 (hR y1.1 11 0 p))) <|
      gd (kd y1.1 (hR y1.1 11 0 p) 203) <|
      gd (wr y1.1 (hR y1.1 11 0 p)) <|
      gd (inb y1.2 (zN y1.1 (hR y1.1 11 0 p))) <|
      lt (pL y1.1 203 (ix y1.2) (hR y1.1 11 0 p) ((hL y1.1 203 (ix y1.2) (hR y1.1 11 0 p)) &&& (((1 : Int64) <<< (a1.toInt64 &&& 63)) ^^^ (-1 : Int64)))) fun S9 =>
      gd (kd S9 p 11) <|
      bd (j_J3_recalculateWordsInUse S9 p) fun y11 =>
      gd (kd y11 p 11) <|
      bd (j_J3_checkInvariants y11 p) fun y13 =>
      some y13
    else
      some y1.1
  else
    none

set_option maxHeartbeats 40000000 in
theorem J_J3_clear (G : zG) (h : zH) (p : Nat) (a1 : Int32) (h9 : zH) (z_ad : ("java/util/BitSet", "$assertionsDisabled", "Z", .int 1) ∈ zGz G) (hm : j_J3_clear h p a1 = some h9) : zJv G yJ3_clear cJ3_clear 3 none 1 0 0 [zrf p, .int a1] h h9 := by
  refine zCo.st [some (zrf p), some (.int a1), none] rfl rfl (by simp only [zarg_r, zarg_i, zarg_l, zarg_0]; rfl) (fun X o f0 hin hw0 => ?_)
  have f := f0.e
  have hin : (Xt X).name = "clear" := hin
  refine (?_ : zQ (EH h) G X 0 0 0 [some (zrf p), some (.int a1), none] []) h rfl hw0
  clear hw0
  generalize hR9 : (h9 : zH) = R at hm
  unfold j_J3_clear at hm
  refine zQ.s (fun h => zs_iload_n (i := 1) o dJ3_clear_0 rfl rfl) ?_
  refine zQ.b (fun h => zs_if_ge (tgt := 31) o dJ3_clear_1 (by decide)) (fun c => ?_) (fun c => ?_)
  · have hm := if_e1 hm c
    refine zQ.s (fun h => zs_iload_n (i := 1) o dJ3_clear_31 rfl rfl) ?_
    obtain ⟨y1, c_y1, hm⟩ := bd_e hm
    refine zh_Si o ml_J3_52 (J_J3_wordIndex G _ _ _ _  c_y1) dJ3_clear_32 rfl rfl rfl rfl (by omega) (by omega) ?_
    refine zQ.s (fun h => zs_istore_n (i := 2) o dJ3_clear_35 rfl (by decide) (Or.inr rfl) (by simp only [List.set_cons_succ, List.set_cons_zero]; rfl)) ?_
    refine zQ.s (fun h => zs_iload_n (i := 2) o dJ3_clear_36 rfl rfl) ?_
    refine zQ.s (fun h => zs_aload_n (i := 0) o dJ3_clear_37 rfl rfl) ?_
    obtain ⟨g2, hm⟩ := gd_e hm
    refine zh_getI o g2 fl_J3_7_11 rfl dJ3_clear_38 ?_
    refine zQ.b (fun h => zs_icmp_lt (tgt := 45) o dJ3_clear_41 (by decide)) (fun c => ?_) (fun c => ?_)
    · have hm := if_e1 hm c
      refine zQ.s (fun h => zs_aload_n (i := 0) o dJ3_clear_45 rfl rfl) ?_
      obtain ⟨g3, hm⟩ := gd_e hm
      refine zh_getR o g3 fl_J3_11_11 rfl dJ3_clear_46 ?_
      refine zQ.s (fun h => zs_iload_n (i := 2) o dJ3_clear_49 rfl rfl) ?_
      refine zQ.s (fun h => zs_dup2_11 o dJ3_clear_50 (by first | rfl | exact zrf_cat _) (by first | rfl | exact zrf_cat _)) ?_
      obtain ⟨g4, hm⟩ := gd_e hm
      obtain ⟨g5, hm⟩ := gd_e hm
      refine zh_lald o g4 g5 dJ3_clear_51 ?_
      refine zQ.s (fun h => zs_lconst (v := 1) o dJ3_clear_52 (by decide)) ?_
      refine zQ.s (fun h => zs_iload_n (i := 1) o dJ3_clear_53 rfl rfl) ?_
      refine zQ.s (fun h => zs_lshl o dJ3_clear_54 rfl) ?_
      refine zQ.s (fun h => zs_ldc2 o q2154 dJ3_clear_55) ?_
      refine zQ.s (fun h => zs_lxor o dJ3_clear_58) ?_
      refine zQ.s (fun h => zs_land o dJ3_clear_59) ?_
      obtain ⟨g6, hm⟩ := gd_e hm
      obtain ⟨g7, hm⟩ := gd_e hm
      obtain ⟨g8, hm⟩ := gd_e hm
      obtain ⟨S9, e_S9, hm⟩ := lt_e hm
      refine zh_last o g6 g7 g8 dJ3_clear_60 e_S9 ?_
      refine zQ.s (fun h => zs_aload_n (i := 0) o dJ3_clear_61 rfl rfl) ?_
      obtain ⟨g10, hm⟩ := gd_e hm
      obtain ⟨y11, c_y11, hm⟩ := bd_e hm
      refine zh_Vv o g10 ml_J3_158 (J_J3_recalculateWordsInUse G _ _ _  c_y11) dJ3_clear_62 rfl rfl rfl rfl (by omega) (by omega) ?_
      refine zQ.s (fun h => zs_aload_n (i := 0) o dJ3_clear_65 rfl rfl) ?_
      obtain ⟨g12, hm⟩ := gd_e hm
      obtain ⟨y13, c_y13, hm⟩ := bd_e hm
      refine zh_Vv o g12 ml_J3_56 (J_J3_checkInvariants G _ _ _ z_ad c_y13) dJ3_clear_66 rfl rfl rfl rfl (by omega) (by omega) ?_
      refine zh_retv o f dJ3_clear_69 (by omega) (by omega) ((so_e hm).trans hR9.symm)
    · have hm := if_e2 hm c
      refine zh_retv o f dJ3_clear_44 (by omega) (by omega) ((so_e hm).trans hR9.symm)
  · have hm := if_e2 hm c
    exact no_e hm
