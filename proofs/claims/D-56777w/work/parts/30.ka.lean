/-! THE COMPONENT, method by method over the heap: printed by mk40.py -/
set_option maxRecDepth 100000
def j_X1_isBetween_j15 (h : zH) (s0 : Int32) : Option (zH × Int32) :=
  gd (b01 s0) <|
  some (h, s0)
def j_X1_isBetween_j14 (h : zH) : Option (zH × Int32) :=
  j_X1_isBetween_j15 h (0 : Int32)
def j_X1_isBetween (h : zH) (a1 : Int32) (a2 : Int32) (a3 : Int32) : Option (zH × Int32) :=
  if a1 < a2 then
    j_X1_isBetween_j14 h
  else
    if a3 < a1 then
      j_X1_isBetween_j14 h
    else
      j_X1_isBetween_j15 h (1 : Int32)

set_option maxHeartbeats 40000000 in
theorem J_X1_isBetween (G : zG) (h : zH) (a1 : Int32) (a2 : Int32) (a3 : Int32) (V : Int32) (h9 : zH) (hm : j_X1_isBetween h a1 a2 a3 = some (h9, V)) : zJi G yX1_isBetween cX1_isBetween 3 (some .boolean) 0 0 0 [.int a1, .int a2, .int a3] h V h9 := by
  refine zCo.st [some (.int a1), some (.int a2), some (.int a3)] rfl rfl (by simp only [zarg_r, zarg_i, zarg_l, zarg_0]; rfl) (fun X o f0 hin hw0 => ?_)
  have f := f0.e
  have hin : (Xt X).name = "isBetween" := hin
  refine (?_ : zQ (EH h) G X 0 0 0 [some (.int a1), some (.int a2), some (.int a3)] []) h rfl hw0
  clear hw0
  generalize hR9 : ((h9, V) : (zH × Int32)) = R at hm
  have hj15 : ∀ (h : zH) (s0 : Int32) (cl sl : Nat), cl + (0) ≤ 0 → sl + (0) ≤ 0 → j_X1_isBetween_j15 h s0 = some R → zQ (EH h) G X cl sl 15 [none, none, none] [.int s0] := by
    intro h s0 cl sl hc hs hm
    unfold j_X1_isBetween_j15 at hm
    obtain ⟨g1, hm⟩ := gd_e hm
    refine zh_reti o f dX1_isBetween_15 (b01_e g1).1 (by omega) (by omega) ((so_e hm).trans hR9.symm)
  have hj14 : ∀ (h : zH) (cl sl : Nat), cl + (0) ≤ 0 → sl + (0) ≤ 0 → j_X1_isBetween_j14 h = some R → zQ (EH h) G X cl sl 14 [none, none, none] [] := by
    intro h cl sl hc hs hm
    unfold j_X1_isBetween_j14 at hm
    refine zQ.s (fun h => zs_iconst (v := 0) o dX1_isBetween_14 (by decide)) ?_
    exact hj15 _ _ _ _ (by omega) (by omega) hm
  unfold j_X1_isBetween at hm
  refine zQ.s (fun h => zs_iload_n (i := 0) o dX1_isBetween_0 rfl rfl) ?_
  refine zQ.s (fun h => zs_iload_n (i := 1) o dX1_isBetween_1 rfl rfl) ?_
  refine zQ.b (fun h => zs_icmp_lt (tgt := 14) o dX1_isBetween_2 (by decide)) (fun c => ?_) (fun c => ?_)
  · have hm := if_e1 hm c
    refine zQ.fg (zl_n (zl_n (zl_n zl_0))) ?_
    exact hj14 _ _ _ (by omega) (by omega) hm
  · have hm := if_e2 hm c
    refine zQ.s (fun h => zs_iload_n (i := 0) o dX1_isBetween_5 rfl rfl) ?_
    refine zQ.s (fun h => zs_iload_n (i := 2) o dX1_isBetween_6 rfl rfl) ?_
    refine zQ.b (fun h => zs_icmp_gt (tgt := 14) o dX1_isBetween_7 (by decide)) (fun c => ?_) (fun c => ?_)
    · have hm := if_e1 hm c
      refine zQ.fg (zl_n (zl_n (zl_n zl_0))) ?_
      exact hj14 _ _ _ (by omega) (by omega) hm
    · have hm := if_e2 hm c
      refine zQ.s (fun h => zs_iconst (v := 1) o dX1_isBetween_10 (by decide)) ?_
      refine zQ.s (fun h => zs_goto (tgt := 15) o dX1_isBetween_11 (by decide)) ?_
      refine zQ.fg (zl_n (zl_n (zl_n zl_0))) ?_
      exact hj15 _ _ _ _ (by omega) (by omega) hm

def j_X1_isAddress (h : zH) (a1 : Int32) : Option (zH × Int32) :=
  bd (j_X1_isBetween h a1 (0 : Int32) (63 : Int32)) fun y1 =>
  gd (b01 y1.2) <|
  some (y1.1, y1.2)

set_option maxHeartbeats 40000000 in
theorem J_X1_isAddress (G : zG) (h : zH) (a1 : Int32) (V : Int32) (h9 : zH) (hm : j_X1_isAddress h a1 = some (h9, V)) : zJi G yX1_isAddress cX1_isAddress 1 (some .boolean) 1 0 0 [.int a1] h V h9 := by
  refine zCo.st [some (.int a1)] rfl rfl (by simp only [zarg_r, zarg_i, zarg_l, zarg_0]; rfl) (fun X o f0 hin hw0 => ?_)
  have f := f0.e
  have hin : (Xt X).name = "isAddress" := hin
  refine (?_ : zQ (EH h) G X 0 0 0 [some (.int a1)] []) h rfl hw0
  clear hw0
  generalize hR9 : ((h9, V) : (zH × Int32)) = R at hm
  unfold j_X1_isAddress at hm
  refine zQ.s (fun h => zs_iload_n (i := 0) o dX1_isAddress_0 rfl rfl) ?_
  refine zQ.s (fun h => zs_iconst (v := 0) o dX1_isAddress_1 (by decide)) ?_
  refine zQ.s (fun h => zs_bipush (v := 63) o dX1_isAddress_2 (by decide)) ?_
  obtain ⟨y1, c_y1, hm⟩ := bd_e hm
  refine zh_Si o ml_X1_3 (J_X1_isBetween G _ _ _ _ _ _  c_y1) dX1_isAddress_4 rfl rfl rfl rfl (by omega) (by omega) ?_
  obtain ⟨g2, hm⟩ := gd_e hm
  refine zh_reti o f dX1_isAddress_7 (b01_e g2).1 (by omega) (by omega) ((so_e hm).trans hR9.symm)

def j_X1_isPlace (h : zH) (a1 : Int32) : Option (zH × Int32) :=
  bd (j_X1_isBetween h a1 (0 : Int32) (63 : Int32)) fun y1 =>
  gd (b01 y1.2) <|
  some (y1.1, y1.2)

set_option maxHeartbeats 40000000 in
theorem J_X1_isPlace (G : zG) (h : zH) (a1 : Int32) (V : Int32) (h9 : zH) (hm : j_X1_isPlace h a1 = some (h9, V)) : zJi G yX1_isPlace cX1_isPlace 1 (some .boolean) 1 0 0 [.int a1] h V h9 := by
  refine zCo.st [some (.int a1)] rfl rfl (by simp only [zarg_r, zarg_i, zarg_l, zarg_0]; rfl) (fun X o f0 hin hw0 => ?_)
  have f := f0.e
  have hin : (Xt X).name = "isPlace" := hin
  refine (?_ : zQ (EH h) G X 0 0 0 [some (.int a1)] []) h rfl hw0
  clear hw0
  generalize hR9 : ((h9, V) : (zH × Int32)) = R at hm
  unfold j_X1_isPlace at hm
  refine zQ.s (fun h => zs_iload_n (i := 0) o dX1_isPlace_0 rfl rfl) ?_
  refine zQ.s (fun h => zs_iconst (v := 0) o dX1_isPlace_1 (by decide)) ?_
  refine zQ.s (fun h => zs_bipush (v := 63) o dX1_isPlace_2 (by decide)) ?_
  obtain ⟨y1, c_y1, hm⟩ := bd_e hm
  refine zh_Si o ml_X1_3 (J_X1_isBetween G _ _ _ _ _ _  c_y1) dX1_isPlace_4 rfl rfl rfl rfl (by omega) (by omega) ?_
  obtain ⟨g2, hm⟩ := gd_e hm
  refine zh_reti o f dX1_isPlace_7 (b01_e g2).1 (by omega) (by omega) ((so_e hm).trans hR9.symm)

def j_X1_isRegister (h : zH) (a1 : Int32) : Option (zH × Int32) :=
  bd (j_X1_isBetween h a1 (0 : Int32) (7 : Int32)) fun y1 =>
  gd (b01 y1.2) <|
  some (y1.1, y1.2)

set_option maxHeartbeats 40000000 in
theorem J_X1_isRegister (G : zG) (h : zH) (a1 : Int32) (V : Int32) (h9 : zH) (hm : j_X1_isRegister h a1 = some (h9, V)) : zJi G yX1_isRegister cX1_isRegister 1 (some .boolean) 1 0 0 [.int a1] h V h9 := by
  refine zCo.st [some (.int a1)] rfl rfl (by simp only [zarg_r, zarg_i, zarg_l, zarg_0]; rfl) (fun X o f0 hin hw0 => ?_)
  have f := f0.e
  have hin : (Xt X).name = "isRegister" := hin
  refine (?_ : zQ (EH h) G X 0 0 0 [some (.int a1)] []) h rfl hw0
  clear hw0
  generalize hR9 : ((h9, V) : (zH × Int32)) = R at hm
  unfold j_X1_isRegister at hm
  refine zQ.s (fun h => zs_iload_n (i := 0) o dX1_isRegister_0 rfl rfl) ?_
  refine zQ.s (fun h => zs_iconst (v := 0) o dX1_isRegister_1 (by decide)) ?_
  refine zQ.s (fun h => zs_bipush (v := 7) o dX1_isRegister_2 (by decide)) ?_
  obtain ⟨y1, c_y1, hm⟩ := bd_e hm
  refine zh_Si o ml_X1_3 (J_X1_isBetween G _ _ _ _ _ _  c_y1) dX1_isRegister_4 rfl rfl rfl rfl (by omega) (by omega) ?_
  obtain ⟨g2, hm⟩ := gd_e hm
  refine zh_reti o f dX1_isRegister_7 (b01_e g2).1 (by omega) (by omega) ((so_e hm).trans hR9.symm)

def j_X2_init (h : zH) (p : Nat) : Option zH :=
  gd (nzr p) <|
  gd (kd h p 2) <|
  gd (wr h p) <|
  lt (pI h 2 0 p (-1 : Int32)) fun S4 =>
  gd (kd S4 p 2) <|
  gd (wr S4 p) <|
  lt (pI S4 2 1 p (-1 : Int32)) fun S7 =>
  some S7

set_option maxHeartbeats 40000000 in
theorem J_X2_init (G : zG) (h : zH) (p : Nat) (h9 : zH) (hm : j_X2_init h p = some h9) : zJv G yX2_init cX2_init 1 none 1 0 0 [zrf p] h h9 := by
  refine zCo.st [some (zrf p)] rfl rfl (by simp only [zarg_r, zarg_i, zarg_l, zarg_0]; rfl) (fun X o f0 hin hw0 => ?_)
  have f := f0.e
  have hin : (Xt X).name = "<init>" := hin
  refine (?_ : zQ (EH h) G X 0 0 0 [some (zrf p)] []) h rfl hw0
  clear hw0
  generalize hR9 : (h9 : zH) = R at hm
  unfold j_X2_init at hm
  refine zQ.s (fun h => zs_aload_n (i := 0) o dX2_init_0 rfl rfl) ?_
  obtain ⟨g1, hm⟩ := gd_e hm
  refine zh_objInit o g1 q203 q163 q164 dX2_init_1 rfl rfl ?_
  refine zQ.s (fun h => zs_aload_n (i := 0) o dX2_init_4 rfl rfl) ?_
  refine zQ.s (fun h => zs_iconst (v := -1) o dX2_init_5 (by decide)) ?_
  obtain ⟨g2, hm⟩ := gd_e hm
  obtain ⟨g3, hm⟩ := gd_e hm
  obtain ⟨S4, e_S4, hm⟩ := lt_e hm
  refine zh_putI o g2 g3 fl_X2_9_2 rfl rfl ⟨rfl, rfl⟩ dX2_init_6 e_S4 ?_
  refine zQ.s (fun h => zs_aload_n (i := 0) o dX2_init_9 rfl rfl) ?_
  refine zQ.s (fun h => zs_iconst (v := -1) o dX2_init_10 (by decide)) ?_
  obtain ⟨g5, hm⟩ := gd_e hm
  obtain ⟨g6, hm⟩ := gd_e hm
  obtain ⟨S7, e_S7, hm⟩ := lt_e hm
  refine zh_putI o g5 g6 fl_X2_15_2 rfl rfl ⟨rfl, rfl⟩ dX2_init_11 e_S7 ?_
  refine zh_retv o f dX2_init_14 (by omega) (by omega) ((so_e hm).trans hR9.symm)

def j_X2_anew (h : zH) (p : Nat) : Option (zH × Nat) :=
  lt (zT h + 1) fun r1 =>
  lt (nw h 2 2 0) fun S2 =>
  gd (nzr r1) <|
  bd (j_X2_init S2 r1) fun y4 =>
  gd (kd y4 p 2) <|
  gd (kd y4 r1 2) <|
  gd (wr y4 r1) <|
  lt (pI y4 2 0 r1 (hI y4 2 0 p)) fun S8 =>
  gd (kd S8 p 2) <|
  gd (kd S8 r1 2) <|
  gd (wr S8 r1) <|
  lt (pI S8 2 1 r1 (hI S8 2 1 p)) fun S12 =>
  some (S12, r1)

set_option maxHeartbeats 40000000 in
theorem J_X2_anew (G : zG) (h : zH) (p : Nat) (V : Nat) (h9 : zH) (hm : j_X2_anew h p = some (h9, V)) : zJr G yX2_anew cX2_anew 2 (some (.object "Reorderium$Handling")) 2 1 4 [zrf p] h V h9 := by
  refine zCo.st [some (zrf p), none] rfl rfl (by simp only [zarg_r, zarg_i, zarg_l, zarg_0]; rfl) (fun X o f0 hin hw0 => ?_)
  have f := f0.e
  have hin : (Xt X).name = "anew" := hin
  refine (?_ : zQ (EH h) G X 0 0 0 [some (zrf p), none] []) h rfl hw0
  clear hw0
  generalize hR9 : ((h9, V) : (zH × Nat)) = R at hm
  unfold j_X2_anew at hm
  obtain ⟨r1, e_r1, hm⟩ := lt_e hm
  obtain ⟨S2, e_S2, hm⟩ := lt_e hm
  refine zh_new (N := 4) o nl_X2_10 rfl dX2_anew_0 (by omega) (by omega) e_S2 ?_
  refine zQ.nmr e_r1 ?_
  refine zQ.s (fun h => zs_dup o dX2_anew_3 (by first | rfl | exact zrf_cat _)) ?_
  obtain ⟨g3, hm⟩ := gd_e hm
  obtain ⟨y4, c_y4, hm⟩ := bd_e hm
  refine zh_Iv o g3 ml_X2_25 (J_X2_init G _ _ _  c_y4) dX2_anew_4 rfl rfl rfl rfl (by omega) (by omega) ?_
  refine zQ.s (fun h => zs_astore_n (i := 1) o dX2_anew_7 rfl (by decide) (Or.inr (zc2_ref rfl)) (by simp only [List.set_cons_succ, List.set_cons_zero]; rfl)) ?_
  refine zQ.s (fun h => zs_aload_n (i := 1) o dX2_anew_8 rfl rfl) ?_
  refine zQ.s (fun h => zs_aload_n (i := 0) o dX2_anew_9 rfl rfl) ?_
  obtain ⟨g5, hm⟩ := gd_e hm
  refine zh_getI o g5 fl_X2_9_2 rfl dX2_anew_10 ?_
  obtain ⟨g6, hm⟩ := gd_e hm
  obtain ⟨g7, hm⟩ := gd_e hm
  obtain ⟨S8, e_S8, hm⟩ := lt_e hm
  refine zh_putI o g6 g7 fl_X2_9_2 rfl rfl ⟨rfl, rfl⟩ dX2_anew_13 e_S8 ?_
  refine zQ.s (fun h => zs_aload_n (i := 1) o dX2_anew_16 rfl rfl) ?_
  refine zQ.s (fun h => zs_aload_n (i := 0) o dX2_anew_17 rfl rfl) ?_
  obtain ⟨g9, hm⟩ := gd_e hm
  refine zh_getI o g9 fl_X2_15_2 rfl dX2_anew_18 ?_
  obtain ⟨g10, hm⟩ := gd_e hm
  obtain ⟨g11, hm⟩ := gd_e hm
  obtain ⟨S12, e_S12, hm⟩ := lt_e hm
  refine zh_putI o g10 g11 fl_X2_15_2 rfl rfl ⟨rfl, rfl⟩ dX2_anew_21 e_S12 ?_
  refine zQ.s (fun h => zs_aload_n (i := 1) o dX2_anew_24 rfl rfl) ?_
  refine zh_retr o f dX2_anew_25 rfl (by omega) (by omega) ((so_e hm).trans hR9.symm)

def j_X2_interrupt (h : zH) (p : Nat) (a1 : Int32) : Option (zH × Int32) :=
  gd (kd h p 2) <|
  gd (wr h p) <|
  lt (pI h 2 2 p (1 : Int32)) fun S3 =>
  gd (kd S3 p 2) <|
  gd (wr S3 p) <|
  lt (pI S3 2 3 p a1) fun S6 =>
  gd (kd S6 p 2) <|
  some (S6, hI S6 2 1 p)

set_option maxHeartbeats 40000000 in
theorem J_X2_interrupt (G : zG) (h : zH) (p : Nat) (a1 : Int32) (V : Int32) (h9 : zH) (hm : j_X2_interrupt h p a1 = some (h9, V)) : zJi G yX2_interrupt cX2_interrupt 2 (some .int) 0 0 0 [zrf p, .int a1] h V h9 := by
  refine zCo.st [some (zrf p), some (.int a1)] rfl rfl (by simp only [zarg_r, zarg_i, zarg_l, zarg_0]; rfl) (fun X o f0 hin hw0 => ?_)
  have f := f0.e
  have hin : (Xt X).name = "interrupt" := hin
  refine (?_ : zQ (EH h) G X 0 0 0 [some (zrf p), some (.int a1)] []) h rfl hw0
  clear hw0
  generalize hR9 : ((h9, V) : (zH × Int32)) = R at hm
  unfold j_X2_interrupt at hm
  refine zQ.s (fun h => zs_aload_n (i := 0) o dX2_interrupt_0 rfl rfl) ?_
  refine zQ.s (fun h => zs_iconst (v := 1) o dX2_interrupt_1 (by decide)) ?_
  obtain ⟨g1, hm⟩ := gd_e hm
  obtain ⟨g2, hm⟩ := gd_e hm
  obtain ⟨S3, e_S3, hm⟩ := lt_e hm
  refine zh_putI o g1 g2 fl_X2_18_2 rfl rfl ⟨rfl, rfl⟩ dX2_interrupt_2 e_S3 ?_
  refine zQ.s (fun h => zs_aload_n (i := 0) o dX2_interrupt_5 rfl rfl) ?_
  refine zQ.s (fun h => zs_iload_n (i := 1) o dX2_interrupt_6 rfl rfl) ?_
  obtain ⟨g4, hm⟩ := gd_e hm
  obtain ⟨g5, hm⟩ := gd_e hm
  obtain ⟨S6, e_S6, hm⟩ := lt_e hm
  refine zh_putI o g4 g5 fl_X2_22_2 rfl rfl ⟨rfl, rfl⟩ dX2_interrupt_7 e_S6 ?_
  refine zQ.s (fun h => zs_aload_n (i := 0) o dX2_interrupt_10 rfl rfl) ?_
  obtain ⟨g7, hm⟩ := gd_e hm
  refine zh_getI o g7 fl_X2_15_2 rfl dX2_interrupt_11 ?_
  refine zh_reti o f dX2_interrupt_14 rfl (by omega) (by omega) ((so_e hm).trans hR9.symm)

def j_X2_trap_j15 (h : zH) : Option (zH × Int32) :=
  some (h, (-1 : Int32))
def j_X2_trap (h : zH) (p : Nat) (a1 : Int32) : Option (zH × Int32) :=
  gd (kd h p 2) <|
  if (hI h 2 2 p) = (0 : Int32) then
    gd (kd h p 2) <|
    if (hI h 2 0 p) = (-1 : Int32) then
      j_X2_trap_j15 h
    else
      gd (kd h p 2) <|
      gd (wr h p) <|
      lt (pI h 2 2 p (1 : Int32)) fun S5 =>
      gd (kd S5 p 2) <|
      gd (wr S5 p) <|
      lt (pI S5 2 3 p a1) fun S8 =>
      gd (kd S8 p 2) <|
      some (S8, hI S8 2 0 p)
  else
    j_X2_trap_j15 h

set_option maxHeartbeats 40000000 in
theorem J_X2_trap (G : zG) (h : zH) (p : Nat) (a1 : Int32) (V : Int32) (h9 : zH) (hm : j_X2_trap h p a1 = some (h9, V)) : zJi G yX2_trap cX2_trap 2 (some .int) 0 0 0 [zrf p, .int a1] h V h9 := by
  refine zCo.st [some (zrf p), some (.int a1)] rfl rfl (by simp only [zarg_r, zarg_i, zarg_l, zarg_0]; rfl) (fun X o f0 hin hw0 => ?_)
  have f := f0.e
  have hin : (Xt X).name = "trap" := hin
  refine (?_ : zQ (EH h) G X 0 0 0 [some (zrf p), some (.int a1)] []) h rfl hw0
  clear hw0
  generalize hR9 : ((h9, V) : (zH × Int32)) = R at hm
  have hj15 : ∀ (h : zH) (cl sl : Nat), cl + (0) ≤ 0 → sl + (0) ≤ 0 → j_X2_trap_j15 h = some R → zQ (EH h) G X cl sl 15 [none, none] [] := by
    intro h cl sl hc hs hm
    unfold j_X2_trap_j15 at hm
    refine zQ.s (fun h => zs_iconst (v := -1) o dX2_trap_15 (by decide)) ?_
    refine zh_reti o f dX2_trap_16 rfl (by omega) (by omega) ((so_e hm).trans hR9.symm)
  unfold j_X2_trap at hm
  refine zQ.s (fun h => zs_aload_n (i := 0) o dX2_trap_0 rfl rfl) ?_
  obtain ⟨g1, hm⟩ := gd_e hm
  refine zh_getI o g1 fl_X2_18_2 rfl dX2_trap_1 ?_
  refine zQ.b (fun h => zs_if_ne (tgt := 15) o dX2_trap_4 (by decide)) (fun c => ?_) (fun c => ?_)
  · have hm := if_e2 hm c
    refine zQ.fg (zl_n (zl_n zl_0)) ?_
    exact hj15 _ _ _ (by omega) (by omega) hm
  · have hm := if_e1 hm c
    refine zQ.s (fun h => zs_aload_n (i := 0) o dX2_trap_7 rfl rfl) ?_
    obtain ⟨g2, hm⟩ := gd_e hm
    refine zh_getI o g2 fl_X2_9_2 rfl dX2_trap_8 ?_
    refine zQ.s (fun h => zs_iconst (v := -1) o dX2_trap_11 (by decide)) ?_
    refine zQ.b (fun h => zs_icmp_ne (tgt := 17) o dX2_trap_12 (by decide)) (fun c => ?_) (fun c => ?_)
    · have hm := if_e2 hm c
      refine zQ.s (fun h => zs_aload_n (i := 0) o dX2_trap_17 rfl rfl) ?_
      refine zQ.s (fun h => zs_iconst (v := 1) o dX2_trap_18 (by decide)) ?_
      obtain ⟨g3, hm⟩ := gd_e hm
      obtain ⟨g4, hm⟩ := gd_e hm
      obtain ⟨S5, e_S5, hm⟩ := lt_e hm
      refine zh_putI o g3 g4 fl_X2_18_2 rfl rfl ⟨rfl, rfl⟩ dX2_trap_19 e_S5 ?_
      refine zQ.s (fun h => zs_aload_n (i := 0) o dX2_trap_22 rfl rfl) ?_
      refine zQ.s (fun h => zs_iload_n (i := 1) o dX2_trap_23 rfl rfl) ?_
      obtain ⟨g6, hm⟩ := gd_e hm
      obtain ⟨g7, hm⟩ := gd_e hm
      obtain ⟨S8, e_S8, hm⟩ := lt_e hm
      refine zh_putI o g6 g7 fl_X2_22_2 rfl rfl ⟨rfl, rfl⟩ dX2_trap_24 e_S8 ?_
      refine zQ.s (fun h => zs_aload_n (i := 0) o dX2_trap_27 rfl rfl) ?_
      obtain ⟨g9, hm⟩ := gd_e hm
      refine zh_getI o g9 fl_X2_9_2 rfl dX2_trap_28 ?_
      refine zh_reti o f dX2_trap_31 rfl (by omega) (by omega) ((so_e hm).trans hR9.symm)
    · have hm := if_e1 hm c
      refine zQ.fg (zl_n (zl_n zl_0)) ?_
      exact hj15 _ _ _ (by omega) (by omega) hm

def j_X2_goBack (h : zH) (p : Nat) : Option (zH × Int32) :=
  gd (kd h p 2) <|
  gd (wr h p) <|
  lt (pI h 2 2 p (0 : Int32)) fun S3 =>
  gd (kd S3 p 2) <|
  some (S3, hI S3 2 3 p)

set_option maxHeartbeats 40000000 in
theorem J_X2_goBack (G : zG) (h : zH) (p : Nat) (V : Int32) (h9 : zH) (hm : j_X2_goBack h p = some (h9, V)) : zJi G yX2_goBack cX2_goBack 1 (some .int) 0 0 0 [zrf p] h V h9 := by
  refine zCo.st [some (zrf p)] rfl rfl (by simp only [zarg_r, zarg_i, zarg_l, zarg_0]; rfl) (fun X o f0 hin hw0 => ?_)
  have f := f0.e
  have hin : (Xt X).name = "goBack" := hin
  refine (?_ : zQ (EH h) G X 0 0 0 [some (zrf p)] []) h rfl hw0
  clear hw0
  generalize hR9 : ((h9, V) : (zH × Int32)) = R at hm
  unfold j_X2_goBack at hm
  refine zQ.s (fun h => zs_aload_n (i := 0) o dX2_goBack_0 rfl rfl) ?_
  refine zQ.s (fun h => zs_iconst (v := 0) o dX2_goBack_1 (by decide)) ?_
  obtain ⟨g1, hm⟩ := gd_e hm
  obtain ⟨g2, hm⟩ := gd_e hm
  obtain ⟨S3, e_S3, hm⟩ := lt_e hm
  refine zh_putI o g1 g2 fl_X2_18_2 rfl rfl ⟨rfl, rfl⟩ dX2_goBack_2 e_S3 ?_
  refine zQ.s (fun h => zs_aload_n (i := 0) o dX2_goBack_5 rfl rfl) ?_
  obtain ⟨g4, hm⟩ := gd_e hm
  refine zh_getI o g4 fl_X2_22_2 rfl dX2_goBack_6 ?_
  refine zh_reti o f dX2_goBack_9 rfl (by omega) (by omega) ((so_e hm).trans hR9.symm)

def j_X2_isSame_j34 (h : zH) (s0 : Int32) : Option (zH × Int32) :=
  gd (b01 s0) <|
  some (h, s0)
def j_X2_isSame_j29 (h : zH) : Option (zH × Int32) :=
  j_X2_isSame_j34 h (1 : Int32)
def j_X2_isSame_j33 (h : zH) : Option (zH × Int32) :=
  j_X2_isSame_j34 h (0 : Int32)
def j_X2_isSame (h : zH) (p : Nat) (a1 : Nat) : Option (zH × Int32) :=
  gd (kd h p 2) <|
  gd (kd h a1 2) <|
  if (hI h 2 2 p) = (hI h 2 2 a1) then
    gd (kd h p 2) <|
    if (hI h 2 2 p) = (0 : Int32) then
      j_X2_isSame_j29 h
    else
      gd (kd h p 2) <|
      gd (kd h a1 2) <|
      if (hI h 2 3 p) = (hI h 2 3 a1) then
        j_X2_isSame_j29 h
      else
        j_X2_isSame_j33 h
  else
    j_X2_isSame_j33 h

set_option maxHeartbeats 40000000 in
theorem J_X2_isSame (G : zG) (h : zH) (p : Nat) (a1 : Nat) (V : Int32) (h9 : zH) (hm : j_X2_isSame h p a1 = some (h9, V)) : zJi G yX2_isSame cX2_isSame 2 (some .boolean) 0 0 0 [zrf p, zrf a1] h V h9 := by
  refine zCo.st [some (zrf p), some (zrf a1)] rfl rfl (by simp only [zarg_r, zarg_i, zarg_l, zarg_0]; rfl) (fun X o f0 hin hw0 => ?_)
  have f := f0.e
  have hin : (Xt X).name = "isSame" := hin
  refine (?_ : zQ (EH h) G X 0 0 0 [some (zrf p), some (zrf a1)] []) h rfl hw0
  clear hw0
  generalize hR9 : ((h9, V) : (zH × Int32)) = R at hm
  have hj34 : ∀ (h : zH) (s0 : Int32) (cl sl : Nat), cl + (0) ≤ 0 → sl + (0) ≤ 0 → j_X2_isSame_j34 h s0 = some R → zQ (EH h) G X cl sl 34 [none, none] [.int s0] := by
    intro h s0 cl sl hc hs hm
    unfold j_X2_isSame_j34 at hm
    obtain ⟨g1, hm⟩ := gd_e hm
    refine zh_reti o f dX2_isSame_34 (b01_e g1).1 (by omega) (by omega) ((so_e hm).trans hR9.symm)
  have hj33 : ∀ (h : zH) (cl sl : Nat), cl + (0) ≤ 0 → sl + (0) ≤ 0 → j_X2_isSame_j33 h = some R → zQ (EH h) G X cl sl 33 [none, none] [] := by
    intro h cl sl hc hs hm
    unfold j_X2_isSame_j33 at hm
    refine zQ.s (fun h => zs_iconst (v := 0) o dX2_isSame_33 (by decide)) ?_
    exact hj34 _ _ _ _ (by omega) (by omega) hm
  have hj29 : ∀ (h : zH) (cl sl : Nat), cl + (0) ≤ 0 → sl + (0) ≤ 0 → j_X2_isSame_j29 h = some R → zQ (EH h) G X cl sl 29 [none, none] [] := by
    intro h cl sl hc hs hm
    unfold j_X2_isSame_j29 at hm
    refine zQ.s (fun h => zs_iconst (v := 1) o dX2_isSame_29 (by decide)) ?_
    refine zQ.s (fun h => zs_goto (tgt := 34) o dX2_isSame_30 (by decide)) ?_
    exact hj34 _ _ _ _ (by omega) (by omega) hm
  unfold j_X2_isSame at hm
  refine zQ.s (fun h => zs_aload_n (i := 0) o dX2_isSame_0 rfl rfl) ?_
  obtain ⟨g1, hm⟩ := gd_e hm
  refine zh_getI o g1 fl_X2_18_2 rfl dX2_isSame_1 ?_
  refine zQ.s (fun h => zs_aload_n (i := 1) o dX2_isSame_4 rfl rfl) ?_
  obtain ⟨g2, hm⟩ := gd_e hm
  refine zh_getI o g2 fl_X2_18_2 rfl dX2_isSame_5 ?_
  refine zQ.b (fun h => zs_icmp_ne (tgt := 33) o dX2_isSame_8 (by decide)) (fun c => ?_) (fun c => ?_)
  · have hm := if_e2 hm c
    refine zQ.fg (zl_n (zl_n zl_0)) ?_
    exact hj33 _ _ _ (by omega) (by omega) hm
  · have hm := if_e1 hm c
    refine zQ.s (fun h => zs_aload_n (i := 0) o dX2_isSame_11 rfl rfl) ?_
    obtain ⟨g3, hm⟩ := gd_e hm
    refine zh_getI o g3 fl_X2_18_2 rfl dX2_isSame_12 ?_
    refine zQ.b (fun h => zs_if_eq (tgt := 29) o dX2_isSame_15 (by decide)) (fun c => ?_) (fun c => ?_)
    · have hm := if_e1 hm c
      refine zQ.fg (zl_n (zl_n zl_0)) ?_
      exact hj29 _ _ _ (by omega) (by omega) hm
    · have hm := if_e2 hm c
      refine zQ.s (fun h => zs_aload_n (i := 0) o dX2_isSame_18 rfl rfl) ?_
      obtain ⟨g4, hm⟩ := gd_e hm
      refine zh_getI o g4 fl_X2_22_2 rfl dX2_isSame_19 ?_
      refine zQ.s (fun h => zs_aload_n (i := 1) o dX2_isSame_22 rfl rfl) ?_
      obtain ⟨g5, hm⟩ := gd_e hm
      refine zh_getI o g5 fl_X2_22_2 rfl dX2_isSame_23 ?_
      refine zQ.b (fun h => zs_icmp_ne (tgt := 33) o dX2_isSame_26 (by decide)) (fun c => ?_) (fun c => ?_)
      · have hm := if_e2 hm c
        refine zQ.fg (zl_n (zl_n zl_0)) ?_
        exact hj33 _ _ _ (by omega) (by omega) hm
      · have hm := if_e1 hm c
        refine zQ.fg (zl_n (zl_n zl_0)) ?_
        exact hj29 _ _ _ (by omega) (by omega) hm

def j_X4_init (h : zH) (p : Nat) (a1 : Int32) (a2 : Int32) (a3 : Int32) (a4 : Int32) (a5 : Int32) : Option zH :=
  gd (nzr p) <|
  gd (kd h p 4) <|
  gd (wr h p) <|
  lt (pI h 4 0 p a1) fun S4 =>
  gd (kd S4 p 4) <|
  gd (wr S4 p) <|
  lt (pI S4 4 1 p a2) fun S7 =>
  gd (kd S7 p 4) <|
  gd (wr S7 p) <|
  lt (pI S7 4 2 p a3) fun S10 =>
  gd (kd S10 p 4) <|
  gd (wr S10 p) <|
  lt (pI S10 4 3 p a4) fun S13 =>
  gd (kd S13 p 4) <|
  gd (wr S13 p) <|
  lt (pI S13 4 4 p a5) fun S16 =>
  some S16

set_option maxHeartbeats 40000000 in
theorem J_X4_init (G : zG) (h : zH) (p : Nat) (a1 : Int32) (a2 : Int32) (a3 : Int32) (a4 : Int32) (a5 : Int32) (h9 : zH) (hm : j_X4_init h p a1 a2 a3 a4 a5 = some h9) : zJv G yX4_init cX4_init 6 none 1 0 0 [zrf p, .int a1, .int a2, .int a3, .int a4, .int a5] h h9 := by
  refine zCo.st [some (zrf p), some (.int a1), some (.int a2), some (.int a3), some (.int a4), some (.int a5)] rfl rfl (by simp only [zarg_r, zarg_i, zarg_l, zarg_0]; rfl) (fun X o f0 hin hw0 => ?_)
  have f := f0.e
  have hin : (Xt X).name = "<init>" := hin
  refine (?_ : zQ (EH h) G X 0 0 0 [some (zrf p), some (.int a1), some (.int a2), some (.int a3), some (.int a4), some (.int a5)] []) h rfl hw0
  clear hw0
  generalize hR9 : (h9 : zH) = R at hm
  unfold j_X4_init at hm
  refine zQ.s (fun h => zs_aload_n (i := 0) o dX4_init_0 rfl rfl) ?_
  obtain ⟨g1, hm⟩ := gd_e hm
  refine zh_objInit o g1 q1507 q163 q164 dX4_init_1 rfl rfl ?_
  refine zQ.s (fun h => zs_aload_n (i := 0) o dX4_init_4 rfl rfl) ?_
  refine zQ.s (fun h => zs_iload_n (i := 1) o dX4_init_5 rfl rfl) ?_
  obtain ⟨g2, hm⟩ := gd_e hm
  obtain ⟨g3, hm⟩ := gd_e hm
  obtain ⟨S4, e_S4, hm⟩ := lt_e hm
  refine zh_putIF o hin g2 g3 fl_X4_9_4 rfl ⟨rfl, rfl⟩ ⟨rfl, rfl⟩ dX4_init_6 e_S4 ?_
  refine zQ.s (fun h => zs_aload_n (i := 0) o dX4_init_9 rfl rfl) ?_
  refine zQ.s (fun h => zs_iload_n (i := 2) o dX4_init_10 rfl rfl) ?_
  obtain ⟨g5, hm⟩ := gd_e hm
  obtain ⟨g6, hm⟩ := gd_e hm
  obtain ⟨S7, e_S7, hm⟩ := lt_e hm
  refine zh_putIF o hin g5 g6 fl_X4_15_4 rfl ⟨rfl, rfl⟩ ⟨rfl, rfl⟩ dX4_init_11 e_S7 ?_
  refine zQ.s (fun h => zs_aload_n (i := 0) o dX4_init_14 rfl rfl) ?_
  refine zQ.s (fun h => zs_iload_n (i := 3) o dX4_init_15 rfl rfl) ?_
  obtain ⟨g8, hm⟩ := gd_e hm
  obtain ⟨g9, hm⟩ := gd_e hm
  obtain ⟨S10, e_S10, hm⟩ := lt_e hm
  refine zh_putIF o hin g8 g9 fl_X4_18_4 rfl ⟨rfl, rfl⟩ ⟨rfl, rfl⟩ dX4_init_16 e_S10 ?_
  refine zQ.s (fun h => zs_aload_n (i := 0) o dX4_init_19 rfl rfl) ?_
  refine zQ.s (fun h => zs_iload (i := 4) o dX4_init_20 rfl) ?_
  obtain ⟨g11, hm⟩ := gd_e hm
  obtain ⟨g12, hm⟩ := gd_e hm
  obtain ⟨S13, e_S13, hm⟩ := lt_e hm
  refine zh_putIF o hin g11 g12 fl_X4_21_4 rfl ⟨rfl, rfl⟩ ⟨rfl, rfl⟩ dX4_init_22 e_S13 ?_
  refine zQ.s (fun h => zs_aload_n (i := 0) o dX4_init_25 rfl rfl) ?_
  refine zQ.s (fun h => zs_iload (i := 5) o dX4_init_26 rfl) ?_
  obtain ⟨g14, hm⟩ := gd_e hm
  obtain ⟨g15, hm⟩ := gd_e hm
  obtain ⟨S16, e_S16, hm⟩ := lt_e hm
  refine zh_putIF o hin g14 g15 fl_X4_24_4 rfl ⟨rfl, rfl⟩ ⟨rfl, rfl⟩ dX4_init_28 e_S16 ?_
  refine zh_retv o f dX4_init_31 (by omega) (by omega) ((so_e hm).trans hR9.symm)

def j_X4_traps_j17 (h : zH) (s0 : Int32) : Option (zH × Int32) :=
  gd (b01 s0) <|
  some (h, s0)
def j_X4_traps_j16 (h : zH) : Option (zH × Int32) :=
  j_X4_traps_j17 h (0 : Int32)
def j_X4_traps (h : zH) (p : Nat) (a1 : Int32) : Option (zH × Int32) :=
  gd (kd h p 4) <|
  if (hI h 4 0 p) = (5 : Int32) then
    if a1 = (0 : Int32) then
      j_X4_traps_j17 h (1 : Int32)
    else
      j_X4_traps_j16 h
  else
    j_X4_traps_j16 h

set_option maxHeartbeats 40000000 in
theorem J_X4_traps (G : zG) (h : zH) (p : Nat) (a1 : Int32) (V : Int32) (h9 : zH) (hm : j_X4_traps h p a1 = some (h9, V)) : zJi G yX4_traps cX4_traps 2 (some .boolean) 0 0 0 [zrf p, .int a1] h V h9 := by
  refine zCo.st [some (zrf p), some (.int a1)] rfl rfl (by simp only [zarg_r, zarg_i, zarg_l, zarg_0]; rfl) (fun X o f0 hin hw0 => ?_)
  have f := f0.e
  have hin : (Xt X).name = "traps" := hin
  refine (?_ : zQ (EH h) G X 0 0 0 [some (zrf p), some (.int a1)] []) h rfl hw0
  clear hw0
  generalize hR9 : ((h9, V) : (zH × Int32)) = R at hm
  have hj17 : ∀ (h : zH) (s0 : Int32) (cl sl : Nat), cl + (0) ≤ 0 → sl + (0) ≤ 0 → j_X4_traps_j17 h s0 = some R → zQ (EH h) G X cl sl 17 [none, none] [.int s0] := by
    intro h s0 cl sl hc hs hm
    unfold j_X4_traps_j17 at hm
    obtain ⟨g1, hm⟩ := gd_e hm
    refine zh_reti o f dX4_traps_17 (b01_e g1).1 (by omega) (by omega) ((so_e hm).trans hR9.symm)
  have hj16 : ∀ (h : zH) (cl sl : Nat), cl + (0) ≤ 0 → sl + (0) ≤ 0 → j_X4_traps_j16 h = some R → zQ (EH h) G X cl sl 16 [none, none] [] := by
    intro h cl sl hc hs hm
    unfold j_X4_traps_j16 at hm
    refine zQ.s (fun h => zs_iconst (v := 0) o dX4_traps_16 (by decide)) ?_
    exact hj17 _ _ _ _ (by omega) (by omega) hm
  unfold j_X4_traps at hm
  refine zQ.s (fun h => zs_aload_n (i := 0) o dX4_traps_0 rfl rfl) ?_
  obtain ⟨g1, hm⟩ := gd_e hm
  refine zh_getI o g1 fl_X4_9_4 rfl dX4_traps_1 ?_
  refine zQ.s (fun h => zs_iconst (v := 5) o dX4_traps_4 (by decide)) ?_
  refine zQ.b (fun h => zs_icmp_ne (tgt := 16) o dX4_traps_5 (by decide)) (fun c => ?_) (fun c => ?_)
  · have hm := if_e2 hm c
    refine zQ.fg (zl_n (zl_n zl_0)) ?_
    exact hj16 _ _ _ (by omega) (by omega) hm
  · have hm := if_e1 hm c
    refine zQ.s (fun h => zs_iload_n (i := 1) o dX4_traps_8 rfl rfl) ?_
    refine zQ.b (fun h => zs_if_ne (tgt := 16) o dX4_traps_9 (by decide)) (fun c => ?_) (fun c => ?_)
    · have hm := if_e2 hm c
      refine zQ.fg (zl_n (zl_n zl_0)) ?_
      exact hj16 _ _ _ (by omega) (by omega) hm
    · have hm := if_e1 hm c
      refine zQ.s (fun h => zs_iconst (v := 1) o dX4_traps_12 (by decide)) ?_
      refine zQ.s (fun h => zs_goto (tgt := 17) o dX4_traps_13 (by decide)) ?_
      refine zQ.fg (zl_n (zl_n zl_0)) ?_
      exact hj17 _ _ _ _ (by omega) (by omega) hm

def j_X4_isStore_j23 (h : zH) (s0 : Int32) : Option (zH × Int32) :=
  gd (b01 s0) <|
  some (h, s0)
def j_X4_isStore_j18 (h : zH) : Option (zH × Int32) :=
  j_X4_isStore_j23 h (1 : Int32)
def j_X4_isStore (h : zH) (p : Nat) : Option (zH × Int32) :=
  gd (kd h p 4) <|
  if (hI h 4 0 p) = (10 : Int32) then
    j_X4_isStore_j18 h
  else
    gd (kd h p 4) <|
    if (hI h 4 0 p) = (11 : Int32) then
      j_X4_isStore_j18 h
    else
      j_X4_isStore_j23 h (0 : Int32)

set_option maxHeartbeats 40000000 in
theorem J_X4_isStore (G : zG) (h : zH) (p : Nat) (V : Int32) (h9 : zH) (hm : j_X4_isStore h p = some (h9, V)) : zJi G yX4_isStore cX4_isStore 1 (some .boolean) 0 0 0 [zrf p] h V h9 := by
  refine zCo.st [some (zrf p)] rfl rfl (by simp only [zarg_r, zarg_i, zarg_l, zarg_0]; rfl) (fun X o f0 hin hw0 => ?_)
  have f := f0.e
  have hin : (Xt X).name = "isStore" := hin
  refine (?_ : zQ (EH h) G X 0 0 0 [some (zrf p)] []) h rfl hw0
  clear hw0
  generalize hR9 : ((h9, V) : (zH × Int32)) = R at hm
  have hj23 : ∀ (h : zH) (s0 : Int32) (cl sl : Nat), cl + (0) ≤ 0 → sl + (0) ≤ 0 → j_X4_isStore_j23 h s0 = some R → zQ (EH h) G X cl sl 23 [none] [.int s0] := by
    intro h s0 cl sl hc hs hm
    unfold j_X4_isStore_j23 at hm
    obtain ⟨g1, hm⟩ := gd_e hm
    refine zh_reti o f dX4_isStore_23 (b01_e g1).1 (by omega) (by omega) ((so_e hm).trans hR9.symm)
  have hj18 : ∀ (h : zH) (cl sl : Nat), cl + (0) ≤ 0 → sl + (0) ≤ 0 → j_X4_isStore_j18 h = some R → zQ (EH h) G X cl sl 18 [none] [] := by
    intro h cl sl hc hs hm
    unfold j_X4_isStore_j18 at hm
    refine zQ.s (fun h => zs_iconst (v := 1) o dX4_isStore_18 (by decide)) ?_
    refine zQ.s (fun h => zs_goto (tgt := 23) o dX4_isStore_19 (by decide)) ?_
    exact hj23 _ _ _ _ (by omega) (by omega) hm
  unfold j_X4_isStore at hm
  refine zQ.s (fun h => zs_aload_n (i := 0) o dX4_isStore_0 rfl rfl) ?_
  obtain ⟨g1, hm⟩ := gd_e hm
  refine zh_getI o g1 fl_X4_9_4 rfl dX4_isStore_1 ?_
  refine zQ.s (fun h => zs_bipush (v := 10) o dX4_isStore_4 (by decide)) ?_
  refine zQ.b (fun h => zs_icmp_eq (tgt := 18) o dX4_isStore_6 (by decide)) (fun c => ?_) (fun c => ?_)
  · have hm := if_e1 hm c
    refine zQ.fg (zl_n zl_0) ?_
    exact hj18 _ _ _ (by omega) (by omega) hm
  · have hm := if_e2 hm c
    refine zQ.s (fun h => zs_aload_n (i := 0) o dX4_isStore_9 rfl rfl) ?_
    obtain ⟨g2, hm⟩ := gd_e hm
    refine zh_getI o g2 fl_X4_9_4 rfl dX4_isStore_10 ?_
    refine zQ.s (fun h => zs_bipush (v := 11) o dX4_isStore_13 (by decide)) ?_
    refine zQ.b (fun h => zs_icmp_ne (tgt := 22) o dX4_isStore_15 (by decide)) (fun c => ?_) (fun c => ?_)
    · have hm := if_e2 hm c
      refine zQ.s (fun h => zs_iconst (v := 0) o dX4_isStore_22 (by decide)) ?_
      refine zQ.fg (zl_n zl_0) ?_
      exact hj23 _ _ _ _ (by omega) (by omega) hm
    · have hm := if_e1 hm c
      refine zQ.fg (zl_n zl_0) ?_
      exact hj18 _ _ _ (by omega) (by omega) hm

def j_X4_isForMemory_j21 (h : zH) (s0 : Int32) : Option (zH × Int32) :=
  gd (b01 s0) <|
  some (h, s0)
def j_X4_isForMemory_j16 (h : zH) : Option (zH × Int32) :=
  j_X4_isForMemory_j21 h (1 : Int32)
def j_X4_isForMemory (h : zH) (p : Nat) : Option (zH × Int32) :=
  gd (kd h p 4) <|
  if (hI h 4 0 p) = (9 : Int32) then
    j_X4_isForMemory_j16 h
  else
    gd (kd h p 4) <|
    bd (j_X4_isStore h p) fun y3 =>
    if y3.2 = (0 : Int32) then
      j_X4_isForMemory_j21 y3.1 (0 : Int32)
    else
      j_X4_isForMemory_j16 y3.1

set_option maxHeartbeats 40000000 in
theorem J_X4_isForMemory (G : zG) (h : zH) (p : Nat) (V : Int32) (h9 : zH) (hm : j_X4_isForMemory h p = some (h9, V)) : zJi G yX4_isForMemory cX4_isForMemory 1 (some .boolean) 1 0 0 [zrf p] h V h9 := by
  refine zCo.st [some (zrf p)] rfl rfl (by simp only [zarg_r, zarg_i, zarg_l, zarg_0]; rfl) (fun X o f0 hin hw0 => ?_)
  have f := f0.e
  have hin : (Xt X).name = "isForMemory" := hin
  refine (?_ : zQ (EH h) G X 0 0 0 [some (zrf p)] []) h rfl hw0
  clear hw0
  generalize hR9 : ((h9, V) : (zH × Int32)) = R at hm
  have hj21 : ∀ (h : zH) (s0 : Int32) (cl sl : Nat), cl + (0) ≤ 0 → sl + (0) ≤ 0 → j_X4_isForMemory_j21 h s0 = some R → zQ (EH h) G X cl sl 21 [none] [.int s0] := by
    intro h s0 cl sl hc hs hm
    unfold j_X4_isForMemory_j21 at hm
    obtain ⟨g1, hm⟩ := gd_e hm
    refine zh_reti o f dX4_isForMemory_21 (b01_e g1).1 (by omega) (by omega) ((so_e hm).trans hR9.symm)
  have hj16 : ∀ (h : zH) (cl sl : Nat), cl + (0) ≤ 0 → sl + (0) ≤ 0 → j_X4_isForMemory_j16 h = some R → zQ (EH h) G X cl sl 16 [none] [] := by
    intro h cl sl hc hs hm
    unfold j_X4_isForMemory_j16 at hm
    refine zQ.s (fun h => zs_iconst (v := 1) o dX4_isForMemory_16 (by decide)) ?_
    refine zQ.s (fun h => zs_goto (tgt := 21) o dX4_isForMemory_17 (by decide)) ?_
    exact hj21 _ _ _ _ (by omega) (by omega) hm
  unfold j_X4_isForMemory at hm
  refine zQ.s (fun h => zs_aload_n (i := 0) o dX4_isForMemory_0 rfl rfl) ?_
  obtain ⟨g1, hm⟩ := gd_e hm
  refine zh_getI o g1 fl_X4_9_4 rfl dX4_isForMemory_1 ?_
  refine zQ.s (fun h => zs_bipush (v := 9) o dX4_isForMemory_4 (by decide)) ?_
  refine zQ.b (fun h => zs_icmp_eq (tgt := 16) o dX4_isForMemory_6 (by decide)) (fun c => ?_) (fun c => ?_)
  · have hm := if_e1 hm c
    refine zQ.fg (zl_n zl_0) ?_
    exact hj16 _ _ _ (by omega) (by omega) hm
  · have hm := if_e2 hm c
    refine zQ.s (fun h => zs_aload_n (i := 0) o dX4_isForMemory_9 rfl rfl) ?_
    obtain ⟨g2, hm⟩ := gd_e hm
    obtain ⟨y3, c_y3, hm⟩ := bd_e hm
    refine zh_Vi o g2 ml_X4_31 (J_X4_isStore G _ _ _ _  c_y3) dX4_isForMemory_10 rfl rfl rfl rfl (by omega) (by omega) ?_
    refine zQ.b (fun h => zs_if_eq (tgt := 20) o dX4_isForMemory_13 (by decide)) (fun c => ?_) (fun c => ?_)
    · have hm := if_e1 hm c
      refine zQ.s (fun h => zs_iconst (v := 0) o dX4_isForMemory_20 (by decide)) ?_
      refine zQ.fg (zl_n zl_0) ?_
      exact hj21 _ _ _ _ (by omega) (by omega) hm
    · have hm := if_e2 hm c
      refine zQ.fg (zl_n zl_0) ?_
      exact hj16 _ _ _ (by omega) (by omega) hm

def j_X4_isIndirect_j23 (h : zH) (s0 : Int32) : Option (zH × Int32) :=
  gd (b01 s0) <|
  some (h, s0)
def j_X4_isIndirect_j18 (h : zH) : Option (zH × Int32) :=
  j_X4_isIndirect_j23 h (1 : Int32)
def j_X4_isIndirect (h : zH) (p : Nat) : Option (zH × Int32) :=
  gd (kd h p 4) <|
  if (hI h 4 0 p) = (16 : Int32) then
    j_X4_isIndirect_j18 h
  else
    gd (kd h p 4) <|
    if (hI h 4 0 p) = (17 : Int32) then
      j_X4_isIndirect_j18 h
    else
      j_X4_isIndirect_j23 h (0 : Int32)

set_option maxHeartbeats 40000000 in
theorem J_X4_isIndirect (G : zG) (h : zH) (p : Nat) (V : Int32) (h9 : zH) (hm : j_X4_isIndirect h p = some (h9, V)) : zJi G yX4_isIndirect cX4_isIndirect 1 (some .boolean) 0 0 0 [zrf p] h V h9 := by
  refine zCo.st [some (zrf p)] rfl rfl (by simp only [zarg_r, zarg_i, zarg_l, zarg_0]; rfl) (fun X o f0 hin hw0 => ?_)
  have f := f0.e
  have hin : (Xt X).name = "isIndirect" := hin
  refine (?_ : zQ (EH h) G X 0 0 0 [some (zrf p)] []) h rfl hw0
  clear hw0
  generalize hR9 : ((h9, V) : (zH × Int32)) = R at hm
  have hj23 : ∀ (h : zH) (s0 : Int32) (cl sl : Nat), cl + (0) ≤ 0 → sl + (0) ≤ 0 → j_X4_isIndirect_j23 h s0 = some R → zQ (EH h) G X cl sl 23 [none] [.int s0] := by
    intro h s0 cl sl hc hs hm
    unfold j_X4_isIndirect_j23 at hm
    obtain ⟨g1, hm⟩ := gd_e hm
    refine zh_reti o f dX4_isIndirect_23 (b01_e g1).1 (by omega) (by omega) ((so_e hm).trans hR9.symm)
  have hj18 : ∀ (h : zH) (cl sl : Nat), cl + (0) ≤ 0 → sl + (0) ≤ 0 → j_X4_isIndirect_j18 h = some R → zQ (EH h) G X cl sl 18 [none] [] := by
    intro h cl sl hc hs hm
    unfold j_X4_isIndirect_j18 at hm
    refine zQ.s (fun h => zs_iconst (v := 1) o dX4_isIndirect_18 (by decide)) ?_
    refine zQ.s (fun h => zs_goto (tgt := 23) o dX4_isIndirect_19 (by decide)) ?_
    exact hj23 _ _ _ _ (by omega) (by omega) hm
  unfold j_X4_isIndirect at hm
  refine zQ.s (fun h => zs_aload_n (i := 0) o dX4_isIndirect_0 rfl rfl) ?_
  obtain ⟨g1, hm⟩ := gd_e hm
  refine zh_getI o g1 fl_X4_9_4 rfl dX4_isIndirect_1 ?_
  refine zQ.s (fun h => zs_bipush (v := 16) o dX4_isIndirect_4 (by decide)) ?_
  refine zQ.b (fun h => zs_icmp_eq (tgt := 18) o dX4_isIndirect_6 (by decide)) (fun c => ?_) (fun c => ?_)
  · have hm := if_e1 hm c
    refine zQ.fg (zl_n zl_0) ?_
    exact hj18 _ _ _ (by omega) (by omega) hm
  · have hm := if_e2 hm c
    refine zQ.s (fun h => zs_aload_n (i := 0) o dX4_isIndirect_9 rfl rfl) ?_
    obtain ⟨g2, hm⟩ := gd_e hm
    refine zh_getI o g2 fl_X4_9_4 rfl dX4_isIndirect_10 ?_
    refine zQ.s (fun h => zs_bipush (v := 17) o dX4_isIndirect_13 (by decide)) ?_
    refine zQ.b (fun h => zs_icmp_ne (tgt := 22) o dX4_isIndirect_15 (by decide)) (fun c => ?_) (fun c => ?_)
    · have hm := if_e2 hm c
      refine zQ.s (fun h => zs_iconst (v := 0) o dX4_isIndirect_22 (by decide)) ?_
      refine zQ.fg (zl_n zl_0) ?_
      exact hj23 _ _ _ _ (by omega) (by omega) hm
    · have hm := if_e1 hm c
      refine zQ.fg (zl_n zl_0) ?_
      exact hj18 _ _ _ (by omega) (by omega) hm

def j_X4_stored_j22 (h : zH) (s0 : Int32) : Option (zH × Int32) :=
  some (h, s0)
def j_X4_stored (h : zH) (p : Nat) (a1 : Int32) (a2 : Int32) : Option (zH × Int32) :=
  gd (kd h p 4) <|
  if (hI h 4 0 p) = (10 : Int32) then
    j_X4_stored_j22 h a2
  else
    j_X4_stored_j22 h ((a1 &&& (-65536 : Int32)) ||| (a2 &&& (65535 : Int32)))

set_option maxHeartbeats 40000000 in
theorem J_X4_stored (G : zG) (h : zH) (p : Nat) (a1 : Int32) (a2 : Int32) (V : Int32) (h9 : zH) (hm : j_X4_stored h p a1 a2 = some (h9, V)) : zJi G yX4_stored cX4_stored 3 (some .int) 0 0 0 [zrf p, .int a1, .int a2] h V h9 := by
  refine zCo.st [some (zrf p), some (.int a1), some (.int a2)] rfl rfl (by simp only [zarg_r, zarg_i, zarg_l, zarg_0]; rfl) (fun X o f0 hin hw0 => ?_)
  have f := f0.e
  have hin : (Xt X).name = "stored" := hin
  refine (?_ : zQ (EH h) G X 0 0 0 [some (zrf p), some (.int a1), some (.int a2)] []) h rfl hw0
  clear hw0
  generalize hR9 : ((h9, V) : (zH × Int32)) = R at hm
  have hj22 : ∀ (h : zH) (s0 : Int32) (cl sl : Nat), cl + (0) ≤ 0 → sl + (0) ≤ 0 → j_X4_stored_j22 h s0 = some R → zQ (EH h) G X cl sl 22 [none, none, none] [.int s0] := by
    intro h s0 cl sl hc hs hm
    unfold j_X4_stored_j22 at hm
    refine zh_reti o f dX4_stored_22 rfl (by omega) (by omega) ((so_e hm).trans hR9.symm)
  unfold j_X4_stored at hm
  refine zQ.s (fun h => zs_aload_n (i := 0) o dX4_stored_0 rfl rfl) ?_
  obtain ⟨g1, hm⟩ := gd_e hm
  refine zh_getI o g1 fl_X4_9_4 rfl dX4_stored_1 ?_
  refine zQ.s (fun h => zs_bipush (v := 10) o dX4_stored_4 (by decide)) ?_
  refine zQ.b (fun h => zs_icmp_ne (tgt := 13) o dX4_stored_6 (by decide)) (fun c => ?_) (fun c => ?_)
  · have hm := if_e2 hm c
    refine zQ.s (fun h => zs_iload_n (i := 1) o dX4_stored_13 rfl rfl) ?_
    refine zQ.s (fun h => zs_ldc o q1401 dX4_stored_14) ?_
    refine zQ.s (fun h => zs_iand o dX4_stored_16) ?_
    refine zQ.s (fun h => zs_iload_n (i := 2) o dX4_stored_17 rfl rfl) ?_
    refine zQ.s (fun h => zs_ldc o q1402 dX4_stored_18) ?_
    refine zQ.s (fun h => zs_iand o dX4_stored_20) ?_
    refine zQ.s (fun h => zs_ior o dX4_stored_21) ?_
    refine zQ.fg (zl_n (zl_n (zl_n zl_0))) ?_
    exact hj22 _ _ _ _ (by omega) (by omega) hm
  · have hm := if_e1 hm c
    refine zQ.s (fun h => zs_iload_n (i := 2) o dX4_stored_9 rfl rfl) ?_
    refine zQ.s (fun h => zs_goto (tgt := 22) o dX4_stored_10 (by decide)) ?_
    refine zQ.fg (zl_n (zl_n (zl_n zl_0))) ?_
    exact hj22 _ _ _ _ (by omega) (by omega) hm

def j_X4_hasResult_j27 (h : zH) (s0 : Int32) : Option (zH × Int32) :=
  gd (b01 s0) <|
  some (h, s0)
def j_X4_hasResult_j22 (h : zH) : Option (zH × Int32) :=
  j_X4_hasResult_j27 h (1 : Int32)
def j_X4_hasResult (h : zH) (p : Nat) : Option (zH × Int32) :=
  gd (kd h p 4) <|
  bd (j_X1_isBetween h (hI h 4 0 p) (1 : Int32) (9 : Int32)) fun y2 =>
  if y2.2 = (0 : Int32) then
    gd (kd y2.1 p 4) <|
    if (hI y2.1 4 0 p) = (15 : Int32) then
      j_X4_hasResult_j22 y2.1
    else
      j_X4_hasResult_j27 y2.1 (0 : Int32)
  else
    j_X4_hasResult_j22 y2.1

set_option maxHeartbeats 40000000 in
theorem J_X4_hasResult (G : zG) (h : zH) (p : Nat) (V : Int32) (h9 : zH) (hm : j_X4_hasResult h p = some (h9, V)) : zJi G yX4_hasResult cX4_hasResult 1 (some .boolean) 1 0 0 [zrf p] h V h9 := by
  refine zCo.st [some (zrf p)] rfl rfl (by simp only [zarg_r, zarg_i, zarg_l, zarg_0]; rfl) (fun X o f0 hin hw0 => ?_)
  have f := f0.e
  have hin : (Xt X).name = "hasResult" := hin
  refine (?_ : zQ (EH h) G X 0 0 0 [some (zrf p)] []) h rfl hw0
  clear hw0
  generalize hR9 : ((h9, V) : (zH × Int32)) = R at hm
  have hj27 : ∀ (h : zH) (s0 : Int32) (cl sl : Nat), cl + (0) ≤ 0 → sl + (0) ≤ 0 → j_X4_hasResult_j27 h s0 = some R → zQ (EH h) G X cl sl 27 [none] [.int s0] := by
    intro h s0 cl sl hc hs hm
    unfold j_X4_hasResult_j27 at hm
    obtain ⟨g1, hm⟩ := gd_e hm
    refine zh_reti o f dX4_hasResult_27 (b01_e g1).1 (by omega) (by omega) ((so_e hm).trans hR9.symm)
  have hj22 : ∀ (h : zH) (cl sl : Nat), cl + (0) ≤ 0 → sl + (0) ≤ 0 → j_X4_hasResult_j22 h = some R → zQ (EH h) G X cl sl 22 [none] [] := by
    intro h cl sl hc hs hm
    unfold j_X4_hasResult_j22 at hm
    refine zQ.s (fun h => zs_iconst (v := 1) o dX4_hasResult_22 (by decide)) ?_
    refine zQ.s (fun h => zs_goto (tgt := 27) o dX4_hasResult_23 (by decide)) ?_
    exact hj27 _ _ _ _ (by omega) (by omega) hm
  unfold j_X4_hasResult at hm
  refine zQ.s (fun h => zs_aload_n (i := 0) o dX4_hasResult_0 rfl rfl) ?_
  obtain ⟨g1, hm⟩ := gd_e hm
  refine zh_getI o g1 fl_X4_9_4 rfl dX4_hasResult_1 ?_
  refine zQ.s (fun h => zs_iconst (v := 1) o dX4_hasResult_4 (by decide)) ?_
  refine zQ.s (fun h => zs_bipush (v := 9) o dX4_hasResult_5 (by decide)) ?_
  obtain ⟨y2, c_y2, hm⟩ := bd_e hm
  refine zh_Ni o ml_X4_27 (J_X1_isBetween G _ _ _ _ _ _  c_y2) dX4_hasResult_7 rfl rfl rfl rfl (by omega) (by omega) ?_
  refine zQ.b (fun h => zs_if_ne (tgt := 22) o dX4_hasResult_10 (by decide)) (fun c => ?_) (fun c => ?_)
  · have hm := if_e2 hm c
    refine zQ.fg (zl_n zl_0) ?_
    exact hj22 _ _ _ (by omega) (by omega) hm
  · have hm := if_e1 hm c
    refine zQ.s (fun h => zs_aload_n (i := 0) o dX4_hasResult_13 rfl rfl) ?_
    obtain ⟨g3, hm⟩ := gd_e hm
    refine zh_getI o g3 fl_X4_9_4 rfl dX4_hasResult_14 ?_
    refine zQ.s (fun h => zs_bipush (v := 15) o dX4_hasResult_17 (by decide)) ?_
    refine zQ.b (fun h => zs_icmp_ne (tgt := 26) o dX4_hasResult_19 (by decide)) (fun c => ?_) (fun c => ?_)
    · have hm := if_e2 hm c
      refine zQ.s (fun h => zs_iconst (v := 0) o dX4_hasResult_26 (by decide)) ?_
      refine zQ.fg (zl_n zl_0) ?_
      exact hj27 _ _ _ _ (by omega) (by omega) hm
    · have hm := if_e1 hm c
      refine zQ.fg (zl_n zl_0) ?_
      exact hj22 _ _ _ (by omega) (by omega) hm

def j_X4_reckon_j87 (h : zH) (s0 : Int32) : Option (zH × Int32) :=
  some (h, s0)
def j_X4_reckon (h : zH) (p : Nat) (a1 : Int32) (a2 : Int32) : Option (zH × Int32) :=
  gd (kd h p 4) <|
  if (hI h 4 0 p) = (1 : Int32) then
    gd (kd h p 4) <|
    some (h, hI h 4 4 p)
  else
  if (hI h 4 0 p) = (2 : Int32) then
    some (h, a1 + a2)
  else
  if (hI h 4 0 p) = (3 : Int32) then
    some (h, a1 - a2)
  else
  if (hI h 4 0 p) = (4 : Int32) then
    some (h, a1 * a2)
  else
  if (hI h 4 0 p) = (5 : Int32) then
    gd (nz a2) <|
    some (h, a1 / a2)
  else
  if (hI h 4 0 p) = (6 : Int32) then
    some (h, a1 &&& a2)
  else
  if (hI h 4 0 p) = (7 : Int32) then
    some (h, a1 ^^^ a2)
  else
  if a2 ≤ a1 then
    j_X4_reckon_j87 h (0 : Int32)
  else
    j_X4_reckon_j87 h (1 : Int32)

set_option maxHeartbeats 40000000 in
theorem J_X4_reckon (G : zG) (h : zH) (p : Nat) (a1 : Int32) (a2 : Int32) (V : Int32) (h9 : zH) (hm : j_X4_reckon h p a1 a2 = some (h9, V)) : zJi G yX4_reckon cX4_reckon 3 (some .int) 0 0 0 [zrf p, .int a1, .int a2] h V h9 := by
  refine zCo.st [some (zrf p), some (.int a1), some (.int a2)] rfl rfl (by simp only [zarg_r, zarg_i, zarg_l, zarg_0]; rfl) (fun X o f0 hin hw0 => ?_)
  have f := f0.e
  have hin : (Xt X).name = "reckon" := hin
  refine (?_ : zQ (EH h) G X 0 0 0 [some (zrf p), some (.int a1), some (.int a2)] []) h rfl hw0
  clear hw0
  generalize hR9 : ((h9, V) : (zH × Int32)) = R at hm
  have hj87 : ∀ (h : zH) (s0 : Int32) (cl sl : Nat), cl + (0) ≤ 0 → sl + (0) ≤ 0 → j_X4_reckon_j87 h s0 = some R → zQ (EH h) G X cl sl 87 [none, none, none] [.int s0] := by
    intro h s0 cl sl hc hs hm
    unfold j_X4_reckon_j87 at hm
    refine zh_reti o f dX4_reckon_87 rfl (by omega) (by omega) ((so_e hm).trans hR9.symm)
  unfold j_X4_reckon at hm
  refine zQ.s (fun h => zs_aload_n (i := 0) o dX4_reckon_0 rfl rfl) ?_
  obtain ⟨g1, hm⟩ := gd_e hm
  refine zh_getI o g1 fl_X4_9_4 rfl dX4_reckon_1 ?_
  by_cases c1 : (hI h 4 0 p) = (1 : Int32)
  · have hm := if_e1 hm c1
    refine zQ.s (fun h => zs_table (off := 44) (tgt := 48) o dX4_reckon_4 rfl (by decide) (ts_at c1 (by decide)) (by decide)) ?_
    refine zQ.s (fun h => zs_aload_n (i := 0) o dX4_reckon_48 rfl rfl) ?_
    obtain ⟨g2, hm⟩ := gd_e hm
    refine zh_getI o g2 fl_X4_24_4 rfl dX4_reckon_49 ?_
    refine zh_reti o f dX4_reckon_52 rfl (by omega) (by omega) ((so_e hm).trans hR9.symm)
  have hm := if_e2 hm c1
  by_cases c2 : (hI h 4 0 p) = (2 : Int32)
  · have hm := if_e1 hm c2
    refine zQ.s (fun h => zs_table (off := 49) (tgt := 53) o dX4_reckon_4 rfl (by decide) (ts_at c2 (by decide)) (by decide)) ?_
    refine zQ.s (fun h => zs_iload_n (i := 1) o dX4_reckon_53 rfl rfl) ?_
    refine zQ.s (fun h => zs_iload_n (i := 2) o dX4_reckon_54 rfl rfl) ?_
    refine zQ.s (fun h => zs_iadd o dX4_reckon_55) ?_
    refine zh_reti o f dX4_reckon_56 rfl (by omega) (by omega) ((so_e hm).trans hR9.symm)
  have hm := if_e2 hm c2
  by_cases c3 : (hI h 4 0 p) = (3 : Int32)
  · have hm := if_e1 hm c3
    refine zQ.s (fun h => zs_table (off := 53) (tgt := 57) o dX4_reckon_4 rfl (by decide) (ts_at c3 (by decide)) (by decide)) ?_
    refine zQ.s (fun h => zs_iload_n (i := 1) o dX4_reckon_57 rfl rfl) ?_
    refine zQ.s (fun h => zs_iload_n (i := 2) o dX4_reckon_58 rfl rfl) ?_
    refine zQ.s (fun h => zs_isub o dX4_reckon_59) ?_
    refine zh_reti o f dX4_reckon_60 rfl (by omega) (by omega) ((so_e hm).trans hR9.symm)
  have hm := if_e2 hm c3
  by_cases c4 : (hI h 4 0 p) = (4 : Int32)
  · have hm := if_e1 hm c4
    refine zQ.s (fun h => zs_table (off := 57) (tgt := 61) o dX4_reckon_4 rfl (by decide) (ts_at c4 (by decide)) (by decide)) ?_
    refine zQ.s (fun h => zs_iload_n (i := 1) o dX4_reckon_61 rfl rfl) ?_
    refine zQ.s (fun h => zs_iload_n (i := 2) o dX4_reckon_62 rfl rfl) ?_
    refine zQ.s (fun h => zs_imul o dX4_reckon_63) ?_
    refine zh_reti o f dX4_reckon_64 rfl (by omega) (by omega) ((so_e hm).trans hR9.symm)
  have hm := if_e2 hm c4
  by_cases c5 : (hI h 4 0 p) = (5 : Int32)
  · have hm := if_e1 hm c5
    refine zQ.s (fun h => zs_table (off := 61) (tgt := 65) o dX4_reckon_4 rfl (by decide) (ts_at c5 (by decide)) (by decide)) ?_
    refine zQ.s (fun h => zs_iload_n (i := 1) o dX4_reckon_65 rfl rfl) ?_
    refine zQ.s (fun h => zs_iload_n (i := 2) o dX4_reckon_66 rfl rfl) ?_
    obtain ⟨g3, hm⟩ := gd_e hm
    refine zQ.s (fun h => zs_idiv o dX4_reckon_67 (nz_e g3)) ?_
    refine zh_reti o f dX4_reckon_68 rfl (by omega) (by omega) ((so_e hm).trans hR9.symm)
  have hm := if_e2 hm c5
  by_cases c6 : (hI h 4 0 p) = (6 : Int32)
  · have hm := if_e1 hm c6
    refine zQ.s (fun h => zs_table (off := 65) (tgt := 69) o dX4_reckon_4 rfl (by decide) (ts_at c6 (by decide)) (by decide)) ?_
    refine zQ.s (fun h => zs_iload_n (i := 1) o dX4_reckon_69 rfl rfl) ?_
    refine zQ.s (fun h => zs_iload_n (i := 2) o dX4_reckon_70 rfl rfl) ?_
    refine zQ.s (fun h => zs_iand o dX4_reckon_71) ?_
    refine zh_reti o f dX4_reckon_72 rfl (by omega) (by omega) ((so_e hm).trans hR9.symm)
  have hm := if_e2 hm c6
  by_cases c7 : (hI h 4 0 p) = (7 : Int32)
  · have hm := if_e1 hm c7
    refine zQ.s (fun h => zs_table (off := 69) (tgt := 73) o dX4_reckon_4 rfl (by decide) (ts_at c7 (by decide)) (by decide)) ?_
    refine zQ.s (fun h => zs_iload_n (i := 1) o dX4_reckon_73 rfl rfl) ?_
    refine zQ.s (fun h => zs_iload_n (i := 2) o dX4_reckon_74 rfl rfl) ?_
    refine zQ.s (fun h => zs_ixor o dX4_reckon_75) ?_
    refine zh_reti o f dX4_reckon_76 rfl (by omega) (by omega) ((so_e hm).trans hR9.symm)
  have hm := if_e2 hm c7
  refine zQ.s (fun h => zs_table (off := 73) (tgt := 77) o dX4_reckon_4 rfl (by decide) (tsw_c (ts_ne (v := 1) (by decide) c1) (tsw_c (ts_ne (v := 2) (by decide) c2) (tsw_c (ts_ne (v := 3) (by decide) c3) (tsw_c (ts_ne (v := 4) (by decide) c4) (tsw_c (ts_ne (v := 5) (by decide) c5) (tsw_c (ts_ne (v := 6) (by decide) c6) (tsw_c (ts_ne (v := 7) (by decide) c7) (tsw_z)))))))) (by decide)) ?_
  refine zQ.s (fun h => zs_iload_n (i := 1) o dX4_reckon_77 rfl rfl) ?_
  refine zQ.s (fun h => zs_iload_n (i := 2) o dX4_reckon_78 rfl rfl) ?_
  refine zQ.b (fun h => zs_icmp_ge (tgt := 86) o dX4_reckon_79 (by decide)) (fun c => ?_) (fun c => ?_)
  · have hm := if_e1 hm c
    refine zQ.s (fun h => zs_iconst (v := 0) o dX4_reckon_86 (by decide)) ?_
    refine zQ.fg (zl_n (zl_n (zl_n zl_0))) ?_
    exact hj87 _ _ _ _ (by omega) (by omega) hm
  · have hm := if_e2 hm c
    refine zQ.s (fun h => zs_iconst (v := 1) o dX4_reckon_82 (by decide)) ?_
    refine zQ.s (fun h => zs_goto (tgt := 87) o dX4_reckon_83 (by decide)) ?_
    refine zQ.fg (zl_n (zl_n (zl_n zl_0))) ?_
    exact hj87 _ _ _ _ (by omega) (by omega) hm

def j_X4_isCondition_j23 (h : zH) (s0 : Int32) : Option (zH × Int32) :=
  gd (b01 s0) <|
  some (h, s0)
def j_X4_isCondition_j18 (h : zH) : Option (zH × Int32) :=
  j_X4_isCondition_j23 h (1 : Int32)
def j_X4_isCondition (h : zH) (p : Nat) : Option (zH × Int32) :=
  gd (kd h p 4) <|
  if (hI h 4 0 p) = (12 : Int32) then
    j_X4_isCondition_j18 h
  else
    gd (kd h p 4) <|
    if (hI h 4 0 p) = (13 : Int32) then
      j_X4_isCondition_j18 h
    else
      j_X4_isCondition_j23 h (0 : Int32)

set_option maxHeartbeats 40000000 in
theorem J_X4_isCondition (G : zG) (h : zH) (p : Nat) (V : Int32) (h9 : zH) (hm : j_X4_isCondition h p = some (h9, V)) : zJi G yX4_isCondition cX4_isCondition 1 (some .boolean) 0 0 0 [zrf p] h V h9 := by
  refine zCo.st [some (zrf p)] rfl rfl (by simp only [zarg_r, zarg_i, zarg_l, zarg_0]; rfl) (fun X o f0 hin hw0 => ?_)
  have f := f0.e
  have hin : (Xt X).name = "isCondition" := hin
  refine (?_ : zQ (EH h) G X 0 0 0 [some (zrf p)] []) h rfl hw0
  clear hw0
  generalize hR9 : ((h9, V) : (zH × Int32)) = R at hm
  have hj23 : ∀ (h : zH) (s0 : Int32) (cl sl : Nat), cl + (0) ≤ 0 → sl + (0) ≤ 0 → j_X4_isCondition_j23 h s0 = some R → zQ (EH h) G X cl sl 23 [none] [.int s0] := by
    intro h s0 cl sl hc hs hm
    unfold j_X4_isCondition_j23 at hm
    obtain ⟨g1, hm⟩ := gd_e hm
    refine zh_reti o f dX4_isCondition_23 (b01_e g1).1 (by omega) (by omega) ((so_e hm).trans hR9.symm)
  have hj18 : ∀ (h : zH) (cl sl : Nat), cl + (0) ≤ 0 → sl + (0) ≤ 0 → j_X4_isCondition_j18 h = some R → zQ (EH h) G X cl sl 18 [none] [] := by
    intro h cl sl hc hs hm
    unfold j_X4_isCondition_j18 at hm
    refine zQ.s (fun h => zs_iconst (v := 1) o dX4_isCondition_18 (by decide)) ?_
    refine zQ.s (fun h => zs_goto (tgt := 23) o dX4_isCondition_19 (by decide)) ?_
    exact hj23 _ _ _ _ (by omega) (by omega) hm
  unfold j_X4_isCondition at hm
  refine zQ.s (fun h => zs_aload_n (i := 0) o dX4_isCondition_0 rfl rfl) ?_
  obtain ⟨g1, hm⟩ := gd_e hm
  refine zh_getI o g1 fl_X4_9_4 rfl dX4_isCondition_1 ?_
  refine zQ.s (fun h => zs_bipush (v := 12) o dX4_isCondition_4 (by decide)) ?_
  refine zQ.b (fun h => zs_icmp_eq (tgt := 18) o dX4_isCondition_6 (by decide)) (fun c => ?_) (fun c => ?_)
  · have hm := if_e1 hm c
    refine zQ.fg (zl_n zl_0) ?_
    exact hj18 _ _ _ (by omega) (by omega) hm
  · have hm := if_e2 hm c
    refine zQ.s (fun h => zs_aload_n (i := 0) o dX4_isCondition_9 rfl rfl) ?_
    obtain ⟨g2, hm⟩ := gd_e hm
    refine zh_getI o g2 fl_X4_9_4 rfl dX4_isCondition_10 ?_
    refine zQ.s (fun h => zs_bipush (v := 13) o dX4_isCondition_13 (by decide)) ?_
    refine zQ.b (fun h => zs_icmp_ne (tgt := 22) o dX4_isCondition_15 (by decide)) (fun c => ?_) (fun c => ?_)
    · have hm := if_e2 hm c
      refine zQ.s (fun h => zs_iconst (v := 0) o dX4_isCondition_22 (by decide)) ?_
      refine zQ.fg (zl_n zl_0) ?_
      exact hj23 _ _ _ _ (by omega) (by omega) hm
    · have hm := if_e1 hm c
      refine zQ.fg (zl_n zl_0) ?_
      exact hj18 _ _ _ (by omega) (by omega) hm

def j_X4_isFulfilled_j32 (h : zH) (s0 : Int32) : Option (zH × Int32) :=
  gd (b01 s0) <|
  some (h, s0)
def j_X4_isFulfilled (h : zH) (p : Nat) (a1 : Int32) (a2 : Int32) : Option (zH × Int32) :=
  gd (kd h p 4) <|
  if (hI h 4 0 p) = (12 : Int32) then
    if a1 = a2 then
      j_X4_isFulfilled_j32 h (1 : Int32)
    else
      j_X4_isFulfilled_j32 h (0 : Int32)
  else
    if a2 ≤ a1 then
      j_X4_isFulfilled_j32 h (0 : Int32)
    else
      j_X4_isFulfilled_j32 h (1 : Int32)

set_option maxHeartbeats 40000000 in
theorem J_X4_isFulfilled (G : zG) (h : zH) (p : Nat) (a1 : Int32) (a2 : Int32) (V : Int32) (h9 : zH) (hm : j_X4_isFulfilled h p a1 a2 = some (h9, V)) : zJi G yX4_isFulfilled cX4_isFulfilled 3 (some .boolean) 0 0 0 [zrf p, .int a1, .int a2] h V h9 := by
  refine zCo.st [some (zrf p), some (.int a1), some (.int a2)] rfl rfl (by simp only [zarg_r, zarg_i, zarg_l, zarg_0]; rfl) (fun X o f0 hin hw0 => ?_)
  have f := f0.e
  have hin : (Xt X).name = "isFulfilled" := hin
  refine (?_ : zQ (EH h) G X 0 0 0 [some (zrf p), some (.int a1), some (.int a2)] []) h rfl hw0
  clear hw0
  generalize hR9 : ((h9, V) : (zH × Int32)) = R at hm
  have hj32 : ∀ (h : zH) (s0 : Int32) (cl sl : Nat), cl + (0) ≤ 0 → sl + (0) ≤ 0 → j_X4_isFulfilled_j32 h s0 = some R → zQ (EH h) G X cl sl 32 [none, none, none] [.int s0] := by
    intro h s0 cl sl hc hs hm
    unfold j_X4_isFulfilled_j32 at hm
    obtain ⟨g1, hm⟩ := gd_e hm
    refine zh_reti o f dX4_isFulfilled_32 (b01_e g1).1 (by omega) (by omega) ((so_e hm).trans hR9.symm)
  unfold j_X4_isFulfilled at hm
  refine zQ.s (fun h => zs_aload_n (i := 0) o dX4_isFulfilled_0 rfl rfl) ?_
  obtain ⟨g1, hm⟩ := gd_e hm
  refine zh_getI o g1 fl_X4_9_4 rfl dX4_isFulfilled_1 ?_
  refine zQ.s (fun h => zs_bipush (v := 12) o dX4_isFulfilled_4 (by decide)) ?_
  refine zQ.b (fun h => zs_icmp_ne (tgt := 22) o dX4_isFulfilled_6 (by decide)) (fun c => ?_) (fun c => ?_)
  · have hm := if_e2 hm c
    refine zQ.s (fun h => zs_iload_n (i := 1) o dX4_isFulfilled_22 rfl rfl) ?_
    refine zQ.s (fun h => zs_iload_n (i := 2) o dX4_isFulfilled_23 rfl rfl) ?_
    refine zQ.b (fun h => zs_icmp_ge (tgt := 31) o dX4_isFulfilled_24 (by decide)) (fun c => ?_) (fun c => ?_)
    · have hm := if_e1 hm c
      refine zQ.s (fun h => zs_iconst (v := 0) o dX4_isFulfilled_31 (by decide)) ?_
      refine zQ.fg (zl_n (zl_n (zl_n zl_0))) ?_
      exact hj32 _ _ _ _ (by omega) (by omega) hm
    · have hm := if_e2 hm c
      refine zQ.s (fun h => zs_iconst (v := 1) o dX4_isFulfilled_27 (by decide)) ?_
      refine zQ.s (fun h => zs_goto (tgt := 32) o dX4_isFulfilled_28 (by decide)) ?_
      refine zQ.fg (zl_n (zl_n (zl_n zl_0))) ?_
      exact hj32 _ _ _ _ (by omega) (by omega) hm
  · have hm := if_e1 hm c
    refine zQ.s (fun h => zs_iload_n (i := 1) o dX4_isFulfilled_9 rfl rfl) ?_
    refine zQ.s (fun h => zs_iload_n (i := 2) o dX4_isFulfilled_10 rfl rfl) ?_
    refine zQ.b (fun h => zs_icmp_ne (tgt := 18) o dX4_isFulfilled_11 (by decide)) (fun c => ?_) (fun c => ?_)
    · have hm := if_e2 hm c
      refine zQ.s (fun h => zs_iconst (v := 0) o dX4_isFulfilled_18 (by decide)) ?_
      refine zQ.s (fun h => zs_goto (tgt := 32) o dX4_isFulfilled_19 (by decide)) ?_
      refine zQ.fg (zl_n (zl_n (zl_n zl_0))) ?_
      exact hj32 _ _ _ _ (by omega) (by omega) hm
    · have hm := if_e1 hm c
      refine zQ.s (fun h => zs_iconst (v := 1) o dX4_isFulfilled_14 (by decide)) ?_
      refine zQ.s (fun h => zs_goto (tgt := 32) o dX4_isFulfilled_15 (by decide)) ?_
      refine zQ.fg (zl_n (zl_n (zl_n zl_0))) ?_
      exact hj32 _ _ _ _ (by omega) (by omega) hm

def j_X4_isForQueue_j25 (h : zH) (s0 : Int32) : Option (zH × Int32) :=
  gd (b01 s0) <|
  some (h, s0)
def j_X4_isForQueue_j20 (h : zH) : Option (zH × Int32) :=
  j_X4_isForQueue_j25 h (1 : Int32)
def j_X4_isForQueue (h : zH) (p : Nat) : Option (zH × Int32) :=
  gd (kd h p 4) <|
  bd (j_X1_isBetween h (hI h 4 0 p) (1 : Int32) (13 : Int32)) fun y2 =>
  if y2.2 = (0 : Int32) then
    gd (kd y2.1 p 4) <|
    bd (j_X4_isIndirect y2.1 p) fun y4 =>
    if y4.2 = (0 : Int32) then
      j_X4_isForQueue_j25 y4.1 (0 : Int32)
    else
      j_X4_isForQueue_j20 y4.1
  else
    j_X4_isForQueue_j20 y2.1

set_option maxHeartbeats 40000000 in
theorem J_X4_isForQueue (G : zG) (h : zH) (p : Nat) (V : Int32) (h9 : zH) (hm : j_X4_isForQueue h p = some (h9, V)) : zJi G yX4_isForQueue cX4_isForQueue 1 (some .boolean) 1 0 0 [zrf p] h V h9 := by
  refine zCo.st [some (zrf p)] rfl rfl (by simp only [zarg_r, zarg_i, zarg_l, zarg_0]; rfl) (fun X o f0 hin hw0 => ?_)
  have f := f0.e
  have hin : (Xt X).name = "isForQueue" := hin
  refine (?_ : zQ (EH h) G X 0 0 0 [some (zrf p)] []) h rfl hw0
  clear hw0
  generalize hR9 : ((h9, V) : (zH × Int32)) = R at hm
  have hj25 : ∀ (h : zH) (s0 : Int32) (cl sl : Nat), cl + (0) ≤ 0 → sl + (0) ≤ 0 → j_X4_isForQueue_j25 h s0 = some R → zQ (EH h) G X cl sl 25 [none] [.int s0] := by
    intro h s0 cl sl hc hs hm
    unfold j_X4_isForQueue_j25 at hm
    obtain ⟨g1, hm⟩ := gd_e hm
    refine zh_reti o f dX4_isForQueue_25 (b01_e g1).1 (by omega) (by omega) ((so_e hm).trans hR9.symm)
  have hj20 : ∀ (h : zH) (cl sl : Nat), cl + (0) ≤ 0 → sl + (0) ≤ 0 → j_X4_isForQueue_j20 h = some R → zQ (EH h) G X cl sl 20 [none] [] := by
    intro h cl sl hc hs hm
    unfold j_X4_isForQueue_j20 at hm
    refine zQ.s (fun h => zs_iconst (v := 1) o dX4_isForQueue_20 (by decide)) ?_
    refine zQ.s (fun h => zs_goto (tgt := 25) o dX4_isForQueue_21 (by decide)) ?_
    exact hj25 _ _ _ _ (by omega) (by omega) hm
  unfold j_X4_isForQueue at hm
  refine zQ.s (fun h => zs_aload_n (i := 0) o dX4_isForQueue_0 rfl rfl) ?_
  obtain ⟨g1, hm⟩ := gd_e hm
  refine zh_getI o g1 fl_X4_9_4 rfl dX4_isForQueue_1 ?_
  refine zQ.s (fun h => zs_iconst (v := 1) o dX4_isForQueue_4 (by decide)) ?_
  refine zQ.s (fun h => zs_bipush (v := 13) o dX4_isForQueue_5 (by decide)) ?_
  obtain ⟨y2, c_y2, hm⟩ := bd_e hm
  refine zh_Ni o ml_X4_27 (J_X1_isBetween G _ _ _ _ _ _  c_y2) dX4_isForQueue_7 rfl rfl rfl rfl (by omega) (by omega) ?_
  refine zQ.b (fun h => zs_if_ne (tgt := 20) o dX4_isForQueue_10 (by decide)) (fun c => ?_) (fun c => ?_)
  · have hm := if_e2 hm c
    refine zQ.fg (zl_n zl_0) ?_
    exact hj20 _ _ _ (by omega) (by omega) hm
  · have hm := if_e1 hm c
    refine zQ.s (fun h => zs_aload_n (i := 0) o dX4_isForQueue_13 rfl rfl) ?_
    obtain ⟨g3, hm⟩ := gd_e hm
    obtain ⟨y4, c_y4, hm⟩ := bd_e hm
    refine zh_Vi o g3 ml_X4_38 (J_X4_isIndirect G _ _ _ _  c_y4) dX4_isForQueue_14 rfl rfl rfl rfl (by omega) (by omega) ?_
    refine zQ.b (fun h => zs_if_eq (tgt := 24) o dX4_isForQueue_17 (by decide)) (fun c => ?_) (fun c => ?_)
    · have hm := if_e1 hm c
      refine zQ.s (fun h => zs_iconst (v := 0) o dX4_isForQueue_24 (by decide)) ?_
      refine zQ.fg (zl_n zl_0) ?_
      exact hj25 _ _ _ _ (by omega) (by omega) hm
    · have hm := if_e2 hm c
      refine zQ.fg (zl_n zl_0) ?_
      exact hj20 _ _ _ (by omega) (by omega) hm

def j_X4_needsA_j20 (h : zH) (s0 : Int32) : Option (zH × Int32) :=
  gd (b01 s0) <|
  some (h, s0)
def j_X4_needsA_j19 (h : zH) : Option (zH × Int32) :=
  j_X4_needsA_j20 h (0 : Int32)
def j_X4_needsA (h : zH) (p : Nat) : Option (zH × Int32) :=
  gd (kd h p 4) <|
  bd (j_X4_isForQueue h p) fun y2 =>
  if y2.2 = (0 : Int32) then
    j_X4_needsA_j19 y2.1
  else
    gd (kd y2.1 p 4) <|
    if (hI y2.1 4 0 p) = (1 : Int32) then
      j_X4_needsA_j19 y2.1
    else
      j_X4_needsA_j20 y2.1 (1 : Int32)

set_option maxHeartbeats 40000000 in
theorem J_X4_needsA (G : zG) (h : zH) (p : Nat) (V : Int32) (h9 : zH) (hm : j_X4_needsA h p = some (h9, V)) : zJi G yX4_needsA cX4_needsA 1 (some .boolean) 2 0 0 [zrf p] h V h9 := by
  refine zCo.st [some (zrf p)] rfl rfl (by simp only [zarg_r, zarg_i, zarg_l, zarg_0]; rfl) (fun X o f0 hin hw0 => ?_)
  have f := f0.e
  have hin : (Xt X).name = "needsA" := hin
  refine (?_ : zQ (EH h) G X 0 0 0 [some (zrf p)] []) h rfl hw0
  clear hw0
  generalize hR9 : ((h9, V) : (zH × Int32)) = R at hm
  have hj20 : ∀ (h : zH) (s0 : Int32) (cl sl : Nat), cl + (0) ≤ 0 → sl + (0) ≤ 0 → j_X4_needsA_j20 h s0 = some R → zQ (EH h) G X cl sl 20 [none] [.int s0] := by
    intro h s0 cl sl hc hs hm
    unfold j_X4_needsA_j20 at hm
    obtain ⟨g1, hm⟩ := gd_e hm
    refine zh_reti o f dX4_needsA_20 (b01_e g1).1 (by omega) (by omega) ((so_e hm).trans hR9.symm)
  have hj19 : ∀ (h : zH) (cl sl : Nat), cl + (0) ≤ 0 → sl + (0) ≤ 0 → j_X4_needsA_j19 h = some R → zQ (EH h) G X cl sl 19 [none] [] := by
    intro h cl sl hc hs hm
    unfold j_X4_needsA_j19 at hm
    refine zQ.s (fun h => zs_iconst (v := 0) o dX4_needsA_19 (by decide)) ?_
    exact hj20 _ _ _ _ (by omega) (by omega) hm
  unfold j_X4_needsA at hm
  refine zQ.s (fun h => zs_aload_n (i := 0) o dX4_needsA_0 rfl rfl) ?_
  obtain ⟨g1, hm⟩ := gd_e hm
  obtain ⟨y2, c_y2, hm⟩ := bd_e hm
  refine zh_Vi o g1 ml_X4_41 (J_X4_isForQueue G _ _ _ _  c_y2) dX4_needsA_1 rfl rfl rfl rfl (by omega) (by omega) ?_
  refine zQ.b (fun h => zs_if_eq (tgt := 19) o dX4_needsA_4 (by decide)) (fun c => ?_) (fun c => ?_)
  · have hm := if_e1 hm c
    refine zQ.fg (zl_n zl_0) ?_
    exact hj19 _ _ _ (by omega) (by omega) hm
  · have hm := if_e2 hm c
    refine zQ.s (fun h => zs_aload_n (i := 0) o dX4_needsA_7 rfl rfl) ?_
    obtain ⟨g3, hm⟩ := gd_e hm
    refine zh_getI o g3 fl_X4_9_4 rfl dX4_needsA_8 ?_
    refine zQ.s (fun h => zs_iconst (v := 1) o dX4_needsA_11 (by decide)) ?_
    refine zQ.b (fun h => zs_icmp_eq (tgt := 19) o dX4_needsA_12 (by decide)) (fun c => ?_) (fun c => ?_)
    · have hm := if_e1 hm c
      refine zQ.fg (zl_n zl_0) ?_
      exact hj19 _ _ _ (by omega) (by omega) hm
    · have hm := if_e2 hm c
      refine zQ.s (fun h => zs_iconst (v := 1) o dX4_needsA_15 (by decide)) ?_
      refine zQ.s (fun h => zs_goto (tgt := 20) o dX4_needsA_16 (by decide)) ?_
      refine zQ.fg (zl_n zl_0) ?_
      exact hj20 _ _ _ _ (by omega) (by omega) hm

def j_X4_needsBToBegin_j26 (h : zH) (s0 : Int32) : Option (zH × Int32) :=
  gd (b01 s0) <|
  some (h, s0)
def j_X4_needsBToBegin_j25 (h : zH) : Option (zH × Int32) :=
  j_X4_needsBToBegin_j26 h (0 : Int32)
def j_X4_needsBToBegin (h : zH) (p : Nat) : Option (zH × Int32) :=
  gd (kd h p 4) <|
  bd (j_X4_needsA h p) fun y2 =>
  if y2.2 = (0 : Int32) then
    j_X4_needsBToBegin_j25 y2.1
  else
    gd (kd y2.1 p 4) <|
    bd (j_X4_isForMemory y2.1 p) fun y4 =>
    if y4.2 = (0 : Int32) then
      gd (kd y4.1 p 4) <|
      bd (j_X4_isIndirect y4.1 p) fun y6 =>
      if y6.2 = (0 : Int32) then
        j_X4_needsBToBegin_j26 y6.1 (1 : Int32)
      else
        j_X4_needsBToBegin_j25 y6.1
    else
      j_X4_needsBToBegin_j25 y4.1

set_option maxHeartbeats 40000000 in
theorem J_X4_needsBToBegin (G : zG) (h : zH) (p : Nat) (V : Int32) (h9 : zH) (hm : j_X4_needsBToBegin h p = some (h9, V)) : zJi G yX4_needsBToBegin cX4_needsBToBegin 1 (some .boolean) 3 0 0 [zrf p] h V h9 := by
  refine zCo.st [some (zrf p)] rfl rfl (by simp only [zarg_r, zarg_i, zarg_l, zarg_0]; rfl) (fun X o f0 hin hw0 => ?_)
  have f := f0.e
  have hin : (Xt X).name = "needsBToBegin" := hin
  refine (?_ : zQ (EH h) G X 0 0 0 [some (zrf p)] []) h rfl hw0
  clear hw0
  generalize hR9 : ((h9, V) : (zH × Int32)) = R at hm
  have hj26 : ∀ (h : zH) (s0 : Int32) (cl sl : Nat), cl + (0) ≤ 0 → sl + (0) ≤ 0 → j_X4_needsBToBegin_j26 h s0 = some R → zQ (EH h) G X cl sl 26 [none] [.int s0] := by
    intro h s0 cl sl hc hs hm
    unfold j_X4_needsBToBegin_j26 at hm
    obtain ⟨g1, hm⟩ := gd_e hm
    refine zh_reti o f dX4_needsBToBegin_26 (b01_e g1).1 (by omega) (by omega) ((so_e hm).trans hR9.symm)
  have hj25 : ∀ (h : zH) (cl sl : Nat), cl + (0) ≤ 0 → sl + (0) ≤ 0 → j_X4_needsBToBegin_j25 h = some R → zQ (EH h) G X cl sl 25 [none] [] := by
    intro h cl sl hc hs hm
    unfold j_X4_needsBToBegin_j25 at hm
    refine zQ.s (fun h => zs_iconst (v := 0) o dX4_needsBToBegin_25 (by decide)) ?_
    exact hj26 _ _ _ _ (by omega) (by omega) hm
  unfold j_X4_needsBToBegin at hm
  refine zQ.s (fun h => zs_aload_n (i := 0) o dX4_needsBToBegin_0 rfl rfl) ?_
  obtain ⟨g1, hm⟩ := gd_e hm
  obtain ⟨y2, c_y2, hm⟩ := bd_e hm
  refine zh_Vi o g1 ml_X4_44 (J_X4_needsA G _ _ _ _  c_y2) dX4_needsBToBegin_1 rfl rfl rfl rfl (by omega) (by omega) ?_
  refine zQ.b (fun h => zs_if_eq (tgt := 25) o dX4_needsBToBegin_4 (by decide)) (fun c => ?_) (fun c => ?_)
  · have hm := if_e1 hm c
    refine zQ.fg (zl_n zl_0) ?_
    exact hj25 _ _ _ (by omega) (by omega) hm
  · have hm := if_e2 hm c
    refine zQ.s (fun h => zs_aload_n (i := 0) o dX4_needsBToBegin_7 rfl rfl) ?_
    obtain ⟨g3, hm⟩ := gd_e hm
    obtain ⟨y4, c_y4, hm⟩ := bd_e hm
    refine zh_Vi o g3 ml_X4_47 (J_X4_isForMemory G _ _ _ _  c_y4) dX4_needsBToBegin_8 rfl rfl rfl rfl (by omega) (by omega) ?_
    refine zQ.b (fun h => zs_if_ne (tgt := 25) o dX4_needsBToBegin_11 (by decide)) (fun c => ?_) (fun c => ?_)
    · have hm := if_e2 hm c
      refine zQ.fg (zl_n zl_0) ?_
      exact hj25 _ _ _ (by omega) (by omega) hm
    · have hm := if_e1 hm c
      refine zQ.s (fun h => zs_aload_n (i := 0) o dX4_needsBToBegin_14 rfl rfl) ?_
      obtain ⟨g5, hm⟩ := gd_e hm
      obtain ⟨y6, c_y6, hm⟩ := bd_e hm
      refine zh_Vi o g5 ml_X4_38 (J_X4_isIndirect G _ _ _ _  c_y6) dX4_needsBToBegin_15 rfl rfl rfl rfl (by omega) (by omega) ?_
      refine zQ.b (fun h => zs_if_ne (tgt := 25) o dX4_needsBToBegin_18 (by decide)) (fun c => ?_) (fun c => ?_)
      · have hm := if_e2 hm c
        refine zQ.fg (zl_n zl_0) ?_
        exact hj25 _ _ _ (by omega) (by omega) hm
      · have hm := if_e1 hm c
        refine zQ.s (fun h => zs_iconst (v := 1) o dX4_needsBToBegin_21 (by decide)) ?_
        refine zQ.s (fun h => zs_goto (tgt := 26) o dX4_needsBToBegin_22 (by decide)) ?_
        refine zQ.fg (zl_n zl_0) ?_
        exact hj26 _ _ _ _ (by omega) (by omega) hm

def j_X4_standsAlone_j23 (h : zH) (s0 : Int32) : Option (zH × Int32) :=
  gd (b01 s0) <|
  some (h, s0)
def j_X4_standsAlone_j18 (h : zH) : Option (zH × Int32) :=
  j_X4_standsAlone_j23 h (1 : Int32)
def j_X4_standsAlone (h : zH) (p : Nat) : Option (zH × Int32) :=
  gd (kd h p 4) <|
  if (hI h 4 0 p) = (19 : Int32) then
    j_X4_standsAlone_j18 h
  else
    gd (kd h p 4) <|
    if (hI h 4 0 p) = (21 : Int32) then
      j_X4_standsAlone_j18 h
    else
      j_X4_standsAlone_j23 h (0 : Int32)

set_option maxHeartbeats 40000000 in
theorem J_X4_standsAlone (G : zG) (h : zH) (p : Nat) (V : Int32) (h9 : zH) (hm : j_X4_standsAlone h p = some (h9, V)) : zJi G yX4_standsAlone cX4_standsAlone 1 (some .boolean) 0 0 0 [zrf p] h V h9 := by
  refine zCo.st [some (zrf p)] rfl rfl (by simp only [zarg_r, zarg_i, zarg_l, zarg_0]; rfl) (fun X o f0 hin hw0 => ?_)
  have f := f0.e
  have hin : (Xt X).name = "standsAlone" := hin
  refine (?_ : zQ (EH h) G X 0 0 0 [some (zrf p)] []) h rfl hw0
  clear hw0
  generalize hR9 : ((h9, V) : (zH × Int32)) = R at hm
  have hj23 : ∀ (h : zH) (s0 : Int32) (cl sl : Nat), cl + (0) ≤ 0 → sl + (0) ≤ 0 → j_X4_standsAlone_j23 h s0 = some R → zQ (EH h) G X cl sl 23 [none] [.int s0] := by
    intro h s0 cl sl hc hs hm
    unfold j_X4_standsAlone_j23 at hm
    obtain ⟨g1, hm⟩ := gd_e hm
    refine zh_reti o f dX4_standsAlone_23 (b01_e g1).1 (by omega) (by omega) ((so_e hm).trans hR9.symm)
  have hj18 : ∀ (h : zH) (cl sl : Nat), cl + (0) ≤ 0 → sl + (0) ≤ 0 → j_X4_standsAlone_j18 h = some R → zQ (EH h) G X cl sl 18 [none] [] := by
    intro h cl sl hc hs hm
    unfold j_X4_standsAlone_j18 at hm
    refine zQ.s (fun h => zs_iconst (v := 1) o dX4_standsAlone_18 (by decide)) ?_
    refine zQ.s (fun h => zs_goto (tgt := 23) o dX4_standsAlone_19 (by decide)) ?_
    exact hj23 _ _ _ _ (by omega) (by omega) hm
  unfold j_X4_standsAlone at hm
  refine zQ.s (fun h => zs_aload_n (i := 0) o dX4_standsAlone_0 rfl rfl) ?_
  obtain ⟨g1, hm⟩ := gd_e hm
  refine zh_getI o g1 fl_X4_9_4 rfl dX4_standsAlone_1 ?_
  refine zQ.s (fun h => zs_bipush (v := 19) o dX4_standsAlone_4 (by decide)) ?_
  refine zQ.b (fun h => zs_icmp_eq (tgt := 18) o dX4_standsAlone_6 (by decide)) (fun c => ?_) (fun c => ?_)
  · have hm := if_e1 hm c
    refine zQ.fg (zl_n zl_0) ?_
    exact hj18 _ _ _ (by omega) (by omega) hm
  · have hm := if_e2 hm c
    refine zQ.s (fun h => zs_aload_n (i := 0) o dX4_standsAlone_9 rfl rfl) ?_
    obtain ⟨g2, hm⟩ := gd_e hm
    refine zh_getI o g2 fl_X4_9_4 rfl dX4_standsAlone_10 ?_
    refine zQ.s (fun h => zs_bipush (v := 21) o dX4_standsAlone_13 (by decide)) ?_
    refine zQ.b (fun h => zs_icmp_ne (tgt := 22) o dX4_standsAlone_15 (by decide)) (fun c => ?_) (fun c => ?_)
    · have hm := if_e2 hm c
      refine zQ.s (fun h => zs_iconst (v := 0) o dX4_standsAlone_22 (by decide)) ?_
      refine zQ.fg (zl_n zl_0) ?_
      exact hj23 _ _ _ _ (by omega) (by omega) hm
    · have hm := if_e1 hm c
      refine zQ.fg (zl_n zl_0) ?_
      exact hj18 _ _ _ (by omega) (by omega) hm

def j_X5_init (h : zH) (p : Nat) (a1 : Int32) (a2 : Int32) (a3 : Int32) (a4 : Nat) : Option zH :=
  gd (nzr p) <|
  gd (kd h p 5) <|
  gd (wr h p) <|
  lt (pI h 5 0 p a1) fun S4 =>
  gd (kd S4 p 5) <|
  gd (wr S4 p) <|
  lt (pI S4 5 1 p a2) fun S7 =>
  gd (kd S7 p 5) <|
  gd (wr S7 p) <|
  lt (pI S7 5 2 p a3) fun S10 =>
  gd (kd S10 p 5) <|
  gd (wr S10 p) <|
  lt (pR S10 5 3 p a4) fun S13 =>
  some S13

set_option maxHeartbeats 40000000 in
theorem J_X5_init (G : zG) (h : zH) (p : Nat) (a1 : Int32) (a2 : Int32) (a3 : Int32) (a4 : Nat) (h9 : zH) (hm : j_X5_init h p a1 a2 a3 a4 = some h9) : zJv G yX5_init cX5_init 5 none 1 0 0 [zrf p, .int a1, .int a2, .int a3, zrf a4] h h9 := by
  refine zCo.st [some (zrf p), some (.int a1), some (.int a2), some (.int a3), some (zrf a4)] rfl rfl (by simp only [zarg_r, zarg_i, zarg_l, zarg_0]; rfl) (fun X o f0 hin hw0 => ?_)
  have f := f0.e
  have hin : (Xt X).name = "<init>" := hin
  refine (?_ : zQ (EH h) G X 0 0 0 [some (zrf p), some (.int a1), some (.int a2), some (.int a3), some (zrf a4)] []) h rfl hw0
  clear hw0
  generalize hR9 : (h9 : zH) = R at hm
  unfold j_X5_init at hm
  refine zQ.s (fun h => zs_aload_n (i := 0) o dX5_init_0 rfl rfl) ?_
  obtain ⟨g1, hm⟩ := gd_e hm
  refine zh_objInit o g1 q1859 q163 q164 dX5_init_1 rfl rfl ?_
  refine zQ.s (fun h => zs_aload_n (i := 0) o dX5_init_4 rfl rfl) ?_
  refine zQ.s (fun h => zs_iload_n (i := 1) o dX5_init_5 rfl rfl) ?_
  obtain ⟨g2, hm⟩ := gd_e hm
  obtain ⟨g3, hm⟩ := gd_e hm
  obtain ⟨S4, e_S4, hm⟩ := lt_e hm
  refine zh_putIF o hin g2 g3 fl_X5_7_5 rfl ⟨rfl, rfl⟩ ⟨rfl, rfl⟩ dX5_init_6 e_S4 ?_
  refine zQ.s (fun h => zs_aload_n (i := 0) o dX5_init_9 rfl rfl) ?_
  refine zQ.s (fun h => zs_iload_n (i := 2) o dX5_init_10 rfl rfl) ?_
  obtain ⟨g5, hm⟩ := gd_e hm
  obtain ⟨g6, hm⟩ := gd_e hm
  obtain ⟨S7, e_S7, hm⟩ := lt_e hm
  refine zh_putIF o hin g5 g6 fl_X5_13_5 rfl ⟨rfl, rfl⟩ ⟨rfl, rfl⟩ dX5_init_11 e_S7 ?_
  refine zQ.s (fun h => zs_aload_n (i := 0) o dX5_init_14 rfl rfl) ?_
  refine zQ.s (fun h => zs_iload_n (i := 3) o dX5_init_15 rfl rfl) ?_
  obtain ⟨g8, hm⟩ := gd_e hm
  obtain ⟨g9, hm⟩ := gd_e hm
  obtain ⟨S10, e_S10, hm⟩ := lt_e hm
  refine zh_putIF o hin g8 g9 fl_X5_16_5 rfl ⟨rfl, rfl⟩ ⟨rfl, rfl⟩ dX5_init_16 e_S10 ?_
  refine zQ.s (fun h => zs_aload_n (i := 0) o dX5_init_19 rfl rfl) ?_
  refine zQ.s (fun h => zs_aload (i := 4) o dX5_init_20 rfl) ?_
  obtain ⟨g11, hm⟩ := gd_e hm
  obtain ⟨g12, hm⟩ := gd_e hm
  obtain ⟨S13, e_S13, hm⟩ := lt_e hm
  refine zh_putRF o hin g11 g12 fl_X5_19_5 rfl ⟨rfl, rfl⟩ dX5_init_22 e_S13 ?_
  refine zh_retv o f dX5_init_25 (by omega) (by omega) ((so_e hm).trans hR9.symm)

def j_X6_init_j29 (h : zH) (s1 : Int32) (s0 : Nat) : Option zH :=
  gd (kd h s0 6) <|
  gd (wr h s0) <|
  lt (pI h 6 2 s0 s1) fun S3 =>
  some S3
def j_X6_init (h : zH) (p : Nat) (a1 : Int32) : Option zH :=
  gd (nzr p) <|
  gd (kd h p 6) <|
  gd (wr h p) <|
  lt (pI h 6 0 p (2 : Int32)) fun S4 =>
  gd (kd S4 p 6) <|
  gd (wr S4 p) <|
  lt (pI S4 6 1 p (1 : Int32)) fun S7 =>
  gd (kd S7 p 6) <|
  gd (wr S7 p) <|
  lt (pI S7 6 3 p (1 : Int32)) fun S10 =>
  if a1 = (0 : Int32) then
    j_X6_init_j29 S10 (1 : Int32) p
  else
    j_X6_init_j29 S10 (0 : Int32) p

set_option maxHeartbeats 40000000 in
theorem J_X6_init (G : zG) (h : zH) (p : Nat) (a1 : Int32) (h9 : zH) (hm : j_X6_init h p a1 = some h9) : zJv G yX6_init cX6_init 2 none 1 0 0 [zrf p, .int a1] h h9 := by
  refine zCo.st [some (zrf p), some (.int a1)] rfl rfl (by simp only [zarg_r, zarg_i, zarg_l, zarg_0]; rfl) (fun X o f0 hin hw0 => ?_)
  have f := f0.e
  have hin : (Xt X).name = "<init>" := hin
  refine (?_ : zQ (EH h) G X 0 0 0 [some (zrf p), some (.int a1)] []) h rfl hw0
  clear hw0
  generalize hR9 : (h9 : zH) = R at hm
  have hj29 : ∀ (h : zH) (s1 : Int32) (s0 : Nat) (cl sl : Nat), cl + (0) ≤ 0 → sl + (0) ≤ 0 → j_X6_init_j29 h s1 s0 = some R → zQ (EH h) G X cl sl 29 [none, none] [.int s1, zrf s0] := by
    intro h s1 s0 cl sl hc hs hm
    unfold j_X6_init_j29 at hm
    obtain ⟨g1, hm⟩ := gd_e hm
    obtain ⟨g2, hm⟩ := gd_e hm
    obtain ⟨S3, e_S3, hm⟩ := lt_e hm
    refine zh_putI o g1 g2 fl_X6_21_6 rfl rfl ⟨rfl, rfl⟩ dX6_init_29 e_S3 ?_
    refine zh_retv o f dX6_init_32 (by omega) (by omega) ((so_e hm).trans hR9.symm)
  unfold j_X6_init at hm
  refine zQ.s (fun h => zs_aload_n (i := 0) o dX6_init_0 rfl rfl) ?_
  obtain ⟨g1, hm⟩ := gd_e hm
  refine zh_objInit o g1 q2012 q163 q164 dX6_init_1 rfl rfl ?_
  refine zQ.s (fun h => zs_aload_n (i := 0) o dX6_init_4 rfl rfl) ?_
  refine zQ.s (fun h => zs_iconst (v := 2) o dX6_init_5 (by decide)) ?_
  obtain ⟨g2, hm⟩ := gd_e hm
  obtain ⟨g3, hm⟩ := gd_e hm
  obtain ⟨S4, e_S4, hm⟩ := lt_e hm
  refine zh_putI o g2 g3 fl_X6_9_6 rfl rfl ⟨rfl, rfl⟩ dX6_init_6 e_S4 ?_
  refine zQ.s (fun h => zs_aload_n (i := 0) o dX6_init_9 rfl rfl) ?_
  refine zQ.s (fun h => zs_iconst (v := 1) o dX6_init_10 (by decide)) ?_
  obtain ⟨g5, hm⟩ := gd_e hm
  obtain ⟨g6, hm⟩ := gd_e hm
  obtain ⟨S7, e_S7, hm⟩ := lt_e hm
  refine zh_putI o g5 g6 fl_X6_15_6 rfl rfl ⟨rfl, rfl⟩ dX6_init_11 e_S7 ?_
  refine zQ.s (fun h => zs_aload_n (i := 0) o dX6_init_14 rfl rfl) ?_
  refine zQ.s (fun h => zs_iconst (v := 1) o dX6_init_15 (by decide)) ?_
  obtain ⟨g8, hm⟩ := gd_e hm
  obtain ⟨g9, hm⟩ := gd_e hm
  obtain ⟨S10, e_S10, hm⟩ := lt_e hm
  refine zh_putI o g8 g9 fl_X6_18_6 rfl rfl ⟨rfl, rfl⟩ dX6_init_16 e_S10 ?_
  refine zQ.s (fun h => zs_aload_n (i := 0) o dX6_init_19 rfl rfl) ?_
  refine zQ.s (fun h => zs_iload_n (i := 1) o dX6_init_20 rfl rfl) ?_
  refine zQ.b (fun h => zs_if_eq (tgt := 28) o dX6_init_21 (by decide)) (fun c => ?_) (fun c => ?_)
  · have hm := if_e1 hm c
    refine zQ.s (fun h => zs_iconst (v := 1) o dX6_init_28 (by decide)) ?_
    refine zQ.fg (zl_n (zl_n zl_0)) ?_
    exact hj29 _ _ _ _ _ (by omega) (by omega) hm
  · have hm := if_e2 hm c
    refine zQ.s (fun h => zs_iconst (v := 0) o dX6_init_24 (by decide)) ?_
    refine zQ.s (fun h => zs_goto (tgt := 29) o dX6_init_25 (by decide)) ?_
    refine zQ.fg (zl_n (zl_n zl_0)) ?_
    exact hj29 _ _ _ _ _ (by omega) (by omega) hm

def j_X6_leftFor_j42 (h : zH) (s0 : Int32) : Option (zH × Int32) :=
  some (h, s0)
def j_X6_leftFor (h : zH) (p : Nat) (a1 : Int32) : Option (zH × Int32) :=
  if a1 = (4 : Int32) then
    gd (kd h p 6) <|
    some (h, hI h 6 1 p)
  else
    if a1 = (5 : Int32) then
      gd (kd h p 6) <|
      some (h, hI h 6 2 p)
    else
      bd (j_X1_isBetween h a1 (9 : Int32) (11 : Int32)) fun y1 =>
      if y1.2 = (0 : Int32) then
        gd (kd y1.1 p 6) <|
        j_X6_leftFor_j42 y1.1 (hI y1.1 6 0 p)
      else
        gd (kd y1.1 p 6) <|
        j_X6_leftFor_j42 y1.1 (hI y1.1 6 3 p)

set_option maxHeartbeats 40000000 in
theorem J_X6_leftFor (G : zG) (h : zH) (p : Nat) (a1 : Int32) (V : Int32) (h9 : zH) (hm : j_X6_leftFor h p a1 = some (h9, V)) : zJi G yX6_leftFor cX6_leftFor 2 (some .int) 1 0 0 [zrf p, .int a1] h V h9 := by
  refine zCo.st [some (zrf p), some (.int a1)] rfl rfl (by simp only [zarg_r, zarg_i, zarg_l, zarg_0]; rfl) (fun X o f0 hin hw0 => ?_)
  have f := f0.e
  have hin : (Xt X).name = "leftFor" := hin
  refine (?_ : zQ (EH h) G X 0 0 0 [some (zrf p), some (.int a1)] []) h rfl hw0
  clear hw0
  generalize hR9 : ((h9, V) : (zH × Int32)) = R at hm
  have hj42 : ∀ (h : zH) (s0 : Int32) (cl sl : Nat), cl + (0) ≤ 0 → sl + (0) ≤ 0 → j_X6_leftFor_j42 h s0 = some R → zQ (EH h) G X cl sl 42 [none, none] [.int s0] := by
    intro h s0 cl sl hc hs hm
    unfold j_X6_leftFor_j42 at hm
    refine zh_reti o f dX6_leftFor_42 rfl (by omega) (by omega) ((so_e hm).trans hR9.symm)
  unfold j_X6_leftFor at hm
  refine zQ.s (fun h => zs_iload_n (i := 1) o dX6_leftFor_0 rfl rfl) ?_
  refine zQ.s (fun h => zs_iconst (v := 4) o dX6_leftFor_1 (by decide)) ?_
  refine zQ.b (fun h => zs_icmp_ne (tgt := 10) o dX6_leftFor_2 (by decide)) (fun c => ?_) (fun c => ?_)
  · have hm := if_e2 hm c
    refine zQ.s (fun h => zs_iload_n (i := 1) o dX6_leftFor_10 rfl rfl) ?_
    refine zQ.s (fun h => zs_iconst (v := 5) o dX6_leftFor_11 (by decide)) ?_
    refine zQ.b (fun h => zs_icmp_ne (tgt := 20) o dX6_leftFor_12 (by decide)) (fun c => ?_) (fun c => ?_)
    · have hm := if_e2 hm c
      refine zQ.s (fun h => zs_iload_n (i := 1) o dX6_leftFor_20 rfl rfl) ?_
      refine zQ.s (fun h => zs_bipush (v := 9) o dX6_leftFor_21 (by decide)) ?_
      refine zQ.s (fun h => zs_bipush (v := 11) o dX6_leftFor_23 (by decide)) ?_
      obtain ⟨y1, c_y1, hm⟩ := bd_e hm
      refine zh_Ni o ml_X6_28 (J_X1_isBetween G _ _ _ _ _ _  c_y1) dX6_leftFor_25 rfl rfl rfl rfl (by omega) (by omega) ?_
      refine zQ.b (fun h => zs_if_eq (tgt := 38) o dX6_leftFor_28 (by decide)) (fun c => ?_) (fun c => ?_)
      · have hm := if_e1 hm c
        refine zQ.s (fun h => zs_aload_n (i := 0) o dX6_leftFor_38 rfl rfl) ?_
        obtain ⟨g2, hm⟩ := gd_e hm
        refine zh_getI o g2 fl_X6_9_6 rfl dX6_leftFor_39 ?_
        refine zQ.fg (zl_n (zl_n zl_0)) ?_
        exact hj42 _ _ _ _ (by omega) (by omega) hm
      · have hm := if_e2 hm c
        refine zQ.s (fun h => zs_aload_n (i := 0) o dX6_leftFor_31 rfl rfl) ?_
        obtain ⟨g3, hm⟩ := gd_e hm
        refine zh_getI o g3 fl_X6_18_6 rfl dX6_leftFor_32 ?_
        refine zQ.s (fun h => zs_goto (tgt := 42) o dX6_leftFor_35 (by decide)) ?_
        refine zQ.fg (zl_n (zl_n zl_0)) ?_
        exact hj42 _ _ _ _ (by omega) (by omega) hm
    · have hm := if_e1 hm c
      refine zQ.s (fun h => zs_aload_n (i := 0) o dX6_leftFor_15 rfl rfl) ?_
      obtain ⟨g4, hm⟩ := gd_e hm
      refine zh_getI o g4 fl_X6_21_6 rfl dX6_leftFor_16 ?_
      refine zh_reti o f dX6_leftFor_19 rfl (by omega) (by omega) ((so_e hm).trans hR9.symm)
  · have hm := if_e1 hm c
    refine zQ.s (fun h => zs_aload_n (i := 0) o dX6_leftFor_5 rfl rfl) ?_
    obtain ⟨g5, hm⟩ := gd_e hm
    refine zh_getI o g5 fl_X6_15_6 rfl dX6_leftFor_6 ?_
    refine zh_reti o f dX6_leftFor_9 rfl (by omega) (by omega) ((so_e hm).trans hR9.symm)

def j_X6_has_j13 (h : zH) (s0 : Int32) : Option (zH × Int32) :=
  gd (b01 s0) <|
  some (h, s0)
def j_X6_has (h : zH) (p : Nat) (a1 : Int32) : Option (zH × Int32) :=
  gd (kd h p 6) <|
  bd (j_X6_leftFor h p a1) fun y2 =>
  if y2.2 ≤ (0 : Int32) then
    j_X6_has_j13 y2.1 (0 : Int32)
  else
    j_X6_has_j13 y2.1 (1 : Int32)

set_option maxHeartbeats 40000000 in
theorem J_X6_has (G : zG) (h : zH) (p : Nat) (a1 : Int32) (V : Int32) (h9 : zH) (hm : j_X6_has h p a1 = some (h9, V)) : zJi G yX6_has cX6_has 2 (some .boolean) 2 0 0 [zrf p, .int a1] h V h9 := by
  refine zCo.st [some (zrf p), some (.int a1)] rfl rfl (by simp only [zarg_r, zarg_i, zarg_l, zarg_0]; rfl) (fun X o f0 hin hw0 => ?_)
  have f := f0.e
  have hin : (Xt X).name = "has" := hin
  refine (?_ : zQ (EH h) G X 0 0 0 [some (zrf p), some (.int a1)] []) h rfl hw0
  clear hw0
  generalize hR9 : ((h9, V) : (zH × Int32)) = R at hm
  have hj13 : ∀ (h : zH) (s0 : Int32) (cl sl : Nat), cl + (0) ≤ 0 → sl + (0) ≤ 0 → j_X6_has_j13 h s0 = some R → zQ (EH h) G X cl sl 13 [none, none] [.int s0] := by
    intro h s0 cl sl hc hs hm
    unfold j_X6_has_j13 at hm
    obtain ⟨g1, hm⟩ := gd_e hm
    refine zh_reti o f dX6_has_13 (b01_e g1).1 (by omega) (by omega) ((so_e hm).trans hR9.symm)
  unfold j_X6_has at hm
  refine zQ.s (fun h => zs_aload_n (i := 0) o dX6_has_0 rfl rfl) ?_
  refine zQ.s (fun h => zs_iload_n (i := 1) o dX6_has_1 rfl rfl) ?_
  obtain ⟨g1, hm⟩ := gd_e hm
  obtain ⟨y2, c_y2, hm⟩ := bd_e hm
  refine zh_Vi o g1 ml_X6_24 (J_X6_leftFor G _ _ _ _ _  c_y2) dX6_has_2 rfl rfl rfl rfl (by omega) (by omega) ?_
  refine zQ.b (fun h => zs_if_le (tgt := 12) o dX6_has_5 (by decide)) (fun c => ?_) (fun c => ?_)
  · have hm := if_e1 hm c
    refine zQ.s (fun h => zs_iconst (v := 0) o dX6_has_12 (by decide)) ?_
    refine zQ.fg (zl_n (zl_n zl_0)) ?_
    exact hj13 _ _ _ _ (by omega) (by omega) hm
  · have hm := if_e2 hm c
    refine zQ.s (fun h => zs_iconst (v := 1) o dX6_has_8 (by decide)) ?_
    refine zQ.s (fun h => zs_goto (tgt := 13) o dX6_has_9 (by decide)) ?_
    refine zQ.fg (zl_n (zl_n zl_0)) ?_
    exact hj13 _ _ _ _ (by omega) (by omega) hm

def j_X6_use_j70 (h : zH) : Option zH :=
  some h
def j_X6_use (h : zH) (p : Nat) (a1 : Int32) : Option zH :=
  if a1 = (4 : Int32) then
    gd (kd h p 6) <|
    gd (kd h p 6) <|
    gd (wr h p) <|
    lt (pI h 6 1 p ((hI h 6 1 p) - (1 : Int32))) fun S17 =>
    j_X6_use_j70 S17
  else
    if a1 = (5 : Int32) then
      gd (kd h p 6) <|
      gd (kd h p 6) <|
      gd (wr h p) <|
      lt (pI h 6 2 p ((hI h 6 2 p) - (1 : Int32))) fun S13 =>
      j_X6_use_j70 S13
    else
      bd (j_X1_isBetween h a1 (9 : Int32) (11 : Int32)) fun y1 =>
      if y1.2 = (0 : Int32) then
        gd (kd y1.1 p 6) <|
        gd (kd y1.1 p 6) <|
        gd (wr y1.1 p) <|
        lt (pI y1.1 6 0 p ((hI y1.1 6 0 p) - (1 : Int32))) fun S5 =>
        j_X6_use_j70 S5
      else
        gd (kd y1.1 p 6) <|
        gd (kd y1.1 p 6) <|
        gd (wr y1.1 p) <|
        lt (pI y1.1 6 3 p ((hI y1.1 6 3 p) - (1 : Int32))) fun S9 =>
        j_X6_use_j70 S9

set_option maxHeartbeats 40000000 in
theorem J_X6_use (G : zG) (h : zH) (p : Nat) (a1 : Int32) (h9 : zH) (hm : j_X6_use h p a1 = some h9) : zJv G yX6_use cX6_use 2 none 1 0 0 [zrf p, .int a1] h h9 := by
  refine zCo.st [some (zrf p), some (.int a1)] rfl rfl (by simp only [zarg_r, zarg_i, zarg_l, zarg_0]; rfl) (fun X o f0 hin hw0 => ?_)
  have f := f0.e
  have hin : (Xt X).name = "use" := hin
  refine (?_ : zQ (EH h) G X 0 0 0 [some (zrf p), some (.int a1)] []) h rfl hw0
  clear hw0
  generalize hR9 : (h9 : zH) = R at hm
  have hj70 : ∀ (h : zH) (cl sl : Nat), cl + (0) ≤ 0 → sl + (0) ≤ 0 → j_X6_use_j70 h = some R → zQ (EH h) G X cl sl 70 [none, none] [] := by
    intro h cl sl hc hs hm
    unfold j_X6_use_j70 at hm
    refine zh_retv o f dX6_use_70 (by omega) (by omega) ((so_e hm).trans hR9.symm)
  unfold j_X6_use at hm
  refine zQ.s (fun h => zs_iload_n (i := 1) o dX6_use_0 rfl rfl) ?_
  refine zQ.s (fun h => zs_iconst (v := 4) o dX6_use_1 (by decide)) ?_
  refine zQ.b (fun h => zs_icmp_ne (tgt := 18) o dX6_use_2 (by decide)) (fun c => ?_) (fun c => ?_)
  · have hm := if_e2 hm c
    refine zQ.s (fun h => zs_iload_n (i := 1) o dX6_use_18 rfl rfl) ?_
    refine zQ.s (fun h => zs_iconst (v := 5) o dX6_use_19 (by decide)) ?_
    refine zQ.b (fun h => zs_icmp_ne (tgt := 36) o dX6_use_20 (by decide)) (fun c => ?_) (fun c => ?_)
    · have hm := if_e2 hm c
      refine zQ.s (fun h => zs_iload_n (i := 1) o dX6_use_36 rfl rfl) ?_
      refine zQ.s (fun h => zs_bipush (v := 9) o dX6_use_37 (by decide)) ?_
      refine zQ.s (fun h => zs_bipush (v := 11) o dX6_use_39 (by decide)) ?_
      obtain ⟨y1, c_y1, hm⟩ := bd_e hm
      refine zh_Ni o ml_X6_28 (J_X1_isBetween G _ _ _ _ _ _  c_y1) dX6_use_41 rfl rfl rfl rfl (by omega) (by omega) ?_
      refine zQ.b (fun h => zs_if_eq (tgt := 60) o dX6_use_44 (by decide)) (fun c => ?_) (fun c => ?_)
      · have hm := if_e1 hm c
        refine zQ.s (fun h => zs_aload_n (i := 0) o dX6_use_60 rfl rfl) ?_
        refine zQ.s (fun h => zs_dup o dX6_use_61 (by first | rfl | exact zrf_cat _)) ?_
        obtain ⟨g2, hm⟩ := gd_e hm
        refine zh_getI o g2 fl_X6_9_6 rfl dX6_use_62 ?_
        refine zQ.s (fun h => zs_iconst (v := 1) o dX6_use_65 (by decide)) ?_
        refine zQ.s (fun h => zs_isub o dX6_use_66) ?_
        obtain ⟨g3, hm⟩ := gd_e hm
        obtain ⟨g4, hm⟩ := gd_e hm
        obtain ⟨S5, e_S5, hm⟩ := lt_e hm
        refine zh_putI o g3 g4 fl_X6_9_6 rfl rfl ⟨rfl, rfl⟩ dX6_use_67 e_S5 ?_
        refine zQ.fg (zl_n (zl_n zl_0)) ?_
        exact hj70 _ _ _ (by omega) (by omega) hm
      · have hm := if_e2 hm c
        refine zQ.s (fun h => zs_aload_n (i := 0) o dX6_use_47 rfl rfl) ?_
        refine zQ.s (fun h => zs_dup o dX6_use_48 (by first | rfl | exact zrf_cat _)) ?_
        obtain ⟨g6, hm⟩ := gd_e hm
        refine zh_getI o g6 fl_X6_18_6 rfl dX6_use_49 ?_
        refine zQ.s (fun h => zs_iconst (v := 1) o dX6_use_52 (by decide)) ?_
        refine zQ.s (fun h => zs_isub o dX6_use_53) ?_
        obtain ⟨g7, hm⟩ := gd_e hm
        obtain ⟨g8, hm⟩ := gd_e hm
        obtain ⟨S9, e_S9, hm⟩ := lt_e hm
        refine zh_putI o g7 g8 fl_X6_18_6 rfl rfl ⟨rfl, rfl⟩ dX6_use_54 e_S9 ?_
        refine zQ.s (fun h => zs_goto (tgt := 70) o dX6_use_57 (by decide)) ?_
        refine zQ.fg (zl_n (zl_n zl_0)) ?_
        exact hj70 _ _ _ (by omega) (by omega) hm
    · have hm := if_e1 hm c
      refine zQ.s (fun h => zs_aload_n (i := 0) o dX6_use_23 rfl rfl) ?_
      refine zQ.s (fun h => zs_dup o dX6_use_24 (by first | rfl | exact zrf_cat _)) ?_
      obtain ⟨g10, hm⟩ := gd_e hm
      refine zh_getI o g10 fl_X6_21_6 rfl dX6_use_25 ?_
      refine zQ.s (fun h => zs_iconst (v := 1) o dX6_use_28 (by decide)) ?_
      refine zQ.s (fun h => zs_isub o dX6_use_29) ?_
      obtain ⟨g11, hm⟩ := gd_e hm
      obtain ⟨g12, hm⟩ := gd_e hm
      obtain ⟨S13, e_S13, hm⟩ := lt_e hm
      refine zh_putI o g11 g12 fl_X6_21_6 rfl rfl ⟨rfl, rfl⟩ dX6_use_30 e_S13 ?_
      refine zQ.s (fun h => zs_goto (tgt := 70) o dX6_use_33 (by decide)) ?_
      refine zQ.fg (zl_n (zl_n zl_0)) ?_
      exact hj70 _ _ _ (by omega) (by omega) hm
  · have hm := if_e1 hm c
    refine zQ.s (fun h => zs_aload_n (i := 0) o dX6_use_5 rfl rfl) ?_
    refine zQ.s (fun h => zs_dup o dX6_use_6 (by first | rfl | exact zrf_cat _)) ?_
    obtain ⟨g14, hm⟩ := gd_e hm
    refine zh_getI o g14 fl_X6_15_6 rfl dX6_use_7 ?_
    refine zQ.s (fun h => zs_iconst (v := 1) o dX6_use_10 (by decide)) ?_
    refine zQ.s (fun h => zs_isub o dX6_use_11) ?_
    obtain ⟨g15, hm⟩ := gd_e hm
    obtain ⟨g16, hm⟩ := gd_e hm
    obtain ⟨S17, e_S17, hm⟩ := lt_e hm
    refine zh_putI o g15 g16 fl_X6_15_6 rfl rfl ⟨rfl, rfl⟩ dX6_use_12 e_S17 ?_
    refine zQ.s (fun h => zs_goto (tgt := 70) o dX6_use_15 (by decide)) ?_
    refine zQ.fg (zl_n (zl_n zl_0)) ?_
    exact hj70 _ _ _ (by omega) (by omega) hm

def j_X7_init (h : zH) (p : Nat) (a1 : Int32) (a2 : Int32) : Option zH :=
  gd (nzr p) <|
  gd (kd h p 7) <|
  gd (wr h p) <|
  lt (pI h 7 0 p a1) fun S4 =>
  gd (kd S4 p 7) <|
  gd (wr S4 p) <|
  lt (pI S4 7 1 p a2) fun S7 =>
  some S7

set_option maxHeartbeats 40000000 in
theorem J_X7_init (G : zG) (h : zH) (p : Nat) (a1 : Int32) (a2 : Int32) (h9 : zH) (hm : j_X7_init h p a1 a2 = some h9) : zJv G yX7_init cX7_init 3 none 1 0 0 [zrf p, .int a1, .int a2] h h9 := by
  refine zCo.st [some (zrf p), some (.int a1), some (.int a2)] rfl rfl (by simp only [zarg_r, zarg_i, zarg_l, zarg_0]; rfl) (fun X o f0 hin hw0 => ?_)
  have f := f0.e
  have hin : (Xt X).name = "<init>" := hin
  refine (?_ : zQ (EH h) G X 0 0 0 [some (zrf p), some (.int a1), some (.int a2)] []) h rfl hw0
  clear hw0
  generalize hR9 : (h9 : zH) = R at hm
  unfold j_X7_init at hm
  refine zQ.s (fun h => zs_aload_n (i := 0) o dX7_init_0 rfl rfl) ?_
  obtain ⟨g1, hm⟩ := gd_e hm
  refine zh_objInit o g1 q2086 q163 q164 dX7_init_1 rfl rfl ?_
  refine zQ.s (fun h => zs_aload_n (i := 0) o dX7_init_4 rfl rfl) ?_
  refine zQ.s (fun h => zs_iload_n (i := 1) o dX7_init_5 rfl rfl) ?_
  obtain ⟨g2, hm⟩ := gd_e hm
  obtain ⟨g3, hm⟩ := gd_e hm
  obtain ⟨S4, e_S4, hm⟩ := lt_e hm
  refine zh_putIF o hin g2 g3 fl_X7_7_7 rfl ⟨rfl, rfl⟩ ⟨rfl, rfl⟩ dX7_init_6 e_S4 ?_
  refine zQ.s (fun h => zs_aload_n (i := 0) o dX7_init_9 rfl rfl) ?_
  refine zQ.s (fun h => zs_iload_n (i := 2) o dX7_init_10 rfl rfl) ?_
  obtain ⟨g5, hm⟩ := gd_e hm
  obtain ⟨g6, hm⟩ := gd_e hm
  obtain ⟨S7, e_S7, hm⟩ := lt_e hm
  refine zh_putIF o hin g5 g6 fl_X7_13_7 rfl ⟨rfl, rfl⟩ ⟨rfl, rfl⟩ dX7_init_11 e_S7 ?_
  refine zh_retv o f dX7_init_14 (by omega) (by omega) ((so_e hm).trans hR9.symm)

def j_X8_age (h : zH) (p : Nat) : Option (zH × Int64) :=
  gd (kd h p 8) <|
  some (h, hL h 8 3 p)

set_option maxHeartbeats 40000000 in
theorem J_X8_age (G : zG) (h : zH) (p : Nat) (V : Int64) (h9 : zH) (hm : j_X8_age h p = some (h9, V)) : zJl G yX8_age cX8_age 1 (some .long) 0 0 0 [zrf p] h V h9 := by
  refine zCo.st [some (zrf p)] rfl rfl (by simp only [zarg_r, zarg_i, zarg_l, zarg_0]; rfl) (fun X o f0 hin hw0 => ?_)
  have f := f0.e
  have hin : (Xt X).name = "age" := hin
  refine (?_ : zQ (EH h) G X 0 0 0 [some (zrf p)] []) h rfl hw0
  clear hw0
  generalize hR9 : ((h9, V) : (zH × Int64)) = R at hm
  unfold j_X8_age at hm
  refine zQ.s (fun h => zs_aload_n (i := 0) o dX8_age_0 rfl rfl) ?_
  obtain ⟨g1, hm⟩ := gd_e hm
  refine zh_getL o g1 fl_X8_41_8 rfl dX8_age_1 ?_
  refine zh_retl o f dX8_age_4 (by omega) (by omega) ((so_e hm).trans hR9.symm)

def j_X10_isOlderThan_j21 (h : zH) (s0 : Int32) : Option (zH × Int32) :=
  gd (b01 s0) <|
  some (h, s0)
def j_X10_isOlderThan (h : zH) (p : Nat) (a1 : Nat) : Option (zH × Int32) :=
  gd (kd h p 8) <|
  bd (j_X8_age h p) fun y2 =>
  gd (kd y2.1 a1 8) <|
  bd (j_X8_age y2.1 a1) fun y4 =>
  if (0 : Int32) ≤ (lg_cmp y2.2 y4.2) then
    j_X10_isOlderThan_j21 y4.1 (0 : Int32)
  else
    j_X10_isOlderThan_j21 y4.1 (1 : Int32)

set_option maxHeartbeats 40000000 in
theorem J_X10_isOlderThan (G : zG) (h : zH) (p : Nat) (a1 : Nat) (V : Int32) (h9 : zH) (hm : j_X10_isOlderThan h p a1 = some (h9, V)) : zJi G yX10_isOlderThan cX10_isOlderThan 2 (some .boolean) 1 0 0 [zrf p, zrf a1] h V h9 := by
  refine zCo.st [some (zrf p), some (zrf a1)] rfl rfl (by simp only [zarg_r, zarg_i, zarg_l, zarg_0]; rfl) (fun X o f0 hin hw0 => ?_)
  have f := f0.e
  have hin : (Xt X).name = "isOlderThan" := hin
  refine (?_ : zQ (EH h) G X 0 0 0 [some (zrf p), some (zrf a1)] []) h rfl hw0
  clear hw0
  generalize hR9 : ((h9, V) : (zH × Int32)) = R at hm
  have hj21 : ∀ (h : zH) (s0 : Int32) (cl sl : Nat), cl + (0) ≤ 0 → sl + (0) ≤ 0 → j_X10_isOlderThan_j21 h s0 = some R → zQ (EH h) G X cl sl 21 [none, none] [.int s0] := by
    intro h s0 cl sl hc hs hm
    unfold j_X10_isOlderThan_j21 at hm
    obtain ⟨g1, hm⟩ := gd_e hm
    refine zh_reti o f dX10_isOlderThan_21 (b01_e g1).1 (by omega) (by omega) ((so_e hm).trans hR9.symm)
  unfold j_X10_isOlderThan at hm
  refine zQ.s (fun h => zs_aload_n (i := 0) o dX10_isOlderThan_0 rfl rfl) ?_
  obtain ⟨g1, hm⟩ := gd_e hm
  obtain ⟨y2, c_y2, hm⟩ := bd_e hm
  refine zh_Fl o g1 ml_X10_1_8 (J_X8_age G _ _ _ _  c_y2) dX10_isOlderThan_1 rfl rfl rfl rfl (by omega) (by omega) ?_
  refine zQ.s (fun h => zs_aload_n (i := 1) o dX10_isOlderThan_6 rfl rfl) ?_
  obtain ⟨g3, hm⟩ := gd_e hm
  obtain ⟨y4, c_y4, hm⟩ := bd_e hm
  refine zh_Fl o g3 ml_X10_1_8 (J_X8_age G _ _ _ _  c_y4) dX10_isOlderThan_7 rfl rfl rfl rfl (by omega) (by omega) ?_
  refine zQ.s (fun h => zs_lcmp o dX10_isOlderThan_12) ?_
  refine zQ.b (fun h => zs_if_ge (tgt := 20) o dX10_isOlderThan_13 (by decide)) (fun c => ?_) (fun c => ?_)
  · have hm := if_e1 hm c
    refine zQ.s (fun h => zs_iconst (v := 0) o dX10_isOlderThan_20 (by decide)) ?_
    refine zQ.fg (zl_n (zl_n zl_0)) ?_
    exact hj21 _ _ _ _ (by omega) (by omega) hm
  · have hm := if_e2 hm c
    refine zQ.s (fun h => zs_iconst (v := 1) o dX10_isOlderThan_16 (by decide)) ?_
    refine zQ.s (fun h => zs_goto (tgt := 21) o dX10_isOlderThan_17 (by decide)) ?_
    refine zQ.fg (zl_n (zl_n zl_0)) ?_
    exact hj21 _ _ _ _ (by omega) (by omega) hm

def j_X8_isOver_j14 (h : zH) (s0 : Int32) : Option (zH × Int32) :=
  gd (b01 s0) <|
  some (h, s0)
def j_X8_isOver (h : zH) (p : Nat) : Option (zH × Int32) :=
  gd (kd h p 8) <|
  if (hI h 8 14 p) = (101 : Int32) then
    j_X8_isOver_j14 h (1 : Int32)
  else
    j_X8_isOver_j14 h (0 : Int32)

set_option maxHeartbeats 40000000 in
theorem J_X8_isOver (G : zG) (h : zH) (p : Nat) (V : Int32) (h9 : zH) (hm : j_X8_isOver h p = some (h9, V)) : zJi G yX8_isOver cX8_isOver 1 (some .boolean) 0 0 0 [zrf p] h V h9 := by
  refine zCo.st [some (zrf p)] rfl rfl (by simp only [zarg_r, zarg_i, zarg_l, zarg_0]; rfl) (fun X o f0 hin hw0 => ?_)
  have f := f0.e
  have hin : (Xt X).name = "isOver" := hin
  refine (?_ : zQ (EH h) G X 0 0 0 [some (zrf p)] []) h rfl hw0
  clear hw0
  generalize hR9 : ((h9, V) : (zH × Int32)) = R at hm
  have hj14 : ∀ (h : zH) (s0 : Int32) (cl sl : Nat), cl + (0) ≤ 0 → sl + (0) ≤ 0 → j_X8_isOver_j14 h s0 = some R → zQ (EH h) G X cl sl 14 [none] [.int s0] := by
    intro h s0 cl sl hc hs hm
    unfold j_X8_isOver_j14 at hm
    obtain ⟨g1, hm⟩ := gd_e hm
    refine zh_reti o f dX8_isOver_14 (b01_e g1).1 (by omega) (by omega) ((so_e hm).trans hR9.symm)
  unfold j_X8_isOver at hm
  refine zQ.s (fun h => zs_aload_n (i := 0) o dX8_isOver_0 rfl rfl) ?_
  obtain ⟨g1, hm⟩ := gd_e hm
  refine zh_getI o g1 fl_X8_27_8 rfl dX8_isOver_1 ?_
  refine zQ.s (fun h => zs_bipush (v := 101) o dX8_isOver_4 (by decide)) ?_
  refine zQ.b (fun h => zs_icmp_ne (tgt := 13) o dX8_isOver_6 (by decide)) (fun c => ?_) (fun c => ?_)
  · have hm := if_e2 hm c
    refine zQ.s (fun h => zs_iconst (v := 0) o dX8_isOver_13 (by decide)) ?_
    refine zQ.fg (zl_n zl_0) ?_
    exact hj14 _ _ _ _ (by omega) (by omega) hm
  · have hm := if_e1 hm c
    refine zQ.s (fun h => zs_iconst (v := 1) o dX8_isOver_9 (by decide)) ?_
    refine zQ.s (fun h => zs_goto (tgt := 14) o dX8_isOver_10 (by decide)) ?_
    refine zQ.fg (zl_n zl_0) ?_
    exact hj14 _ _ _ _ (by omega) (by omega) hm

def j_X8_isEndedStore_j29 (h : zH) (s0 : Int32) : Option (zH × Int32) :=
  gd (b01 s0) <|
  some (h, s0)
def j_X8_isEndedStore_j28 (h : zH) : Option (zH × Int32) :=
  j_X8_isEndedStore_j29 h (0 : Int32)
def j_X8_isEndedStore (h : zH) (p : Nat) : Option (zH × Int32) :=
  gd (kd h p 8) <|
  gd (kd h (hR h 8 0 p) 4) <|
  bd (j_X4_isStore h (hR h 8 0 p)) fun y3 =>
  if y3.2 = (0 : Int32) then
    j_X8_isEndedStore_j28 y3.1
  else
    gd (kd y3.1 p 8) <|
    bd (j_X8_isOver y3.1 p) fun y5 =>
    if y5.2 = (0 : Int32) then
      j_X8_isEndedStore_j28 y5.1
    else
      gd (kd y5.1 p 8) <|
      if (hI y5.1 8 16 p) = (0 : Int32) then
        j_X8_isEndedStore_j29 y5.1 (1 : Int32)
      else
        j_X8_isEndedStore_j28 y5.1

set_option maxHeartbeats 40000000 in
theorem J_X8_isEndedStore (G : zG) (h : zH) (p : Nat) (V : Int32) (h9 : zH) (hm : j_X8_isEndedStore h p = some (h9, V)) : zJi G yX8_isEndedStore cX8_isEndedStore 1 (some .boolean) 1 0 0 [zrf p] h V h9 := by
  refine zCo.st [some (zrf p)] rfl rfl (by simp only [zarg_r, zarg_i, zarg_l, zarg_0]; rfl) (fun X o f0 hin hw0 => ?_)
  have f := f0.e
  have hin : (Xt X).name = "isEndedStore" := hin
  refine (?_ : zQ (EH h) G X 0 0 0 [some (zrf p)] []) h rfl hw0
  clear hw0
  generalize hR9 : ((h9, V) : (zH × Int32)) = R at hm
  have hj29 : ∀ (h : zH) (s0 : Int32) (cl sl : Nat), cl + (0) ≤ 0 → sl + (0) ≤ 0 → j_X8_isEndedStore_j29 h s0 = some R → zQ (EH h) G X cl sl 29 [none] [.int s0] := by
    intro h s0 cl sl hc hs hm
    unfold j_X8_isEndedStore_j29 at hm
    obtain ⟨g1, hm⟩ := gd_e hm
    refine zh_reti o f dX8_isEndedStore_29 (b01_e g1).1 (by omega) (by omega) ((so_e hm).trans hR9.symm)
  have hj28 : ∀ (h : zH) (cl sl : Nat), cl + (0) ≤ 0 → sl + (0) ≤ 0 → j_X8_isEndedStore_j28 h = some R → zQ (EH h) G X cl sl 28 [none] [] := by
    intro h cl sl hc hs hm
    unfold j_X8_isEndedStore_j28 at hm
    refine zQ.s (fun h => zs_iconst (v := 0) o dX8_isEndedStore_28 (by decide)) ?_
    exact hj29 _ _ _ _ (by omega) (by omega) hm
  unfold j_X8_isEndedStore at hm
  refine zQ.s (fun h => zs_aload_n (i := 0) o dX8_isEndedStore_0 rfl rfl) ?_
  obtain ⟨g1, hm⟩ := gd_e hm
  refine zh_getR o g1 fl_X8_34_8 rfl dX8_isEndedStore_1 ?_
  obtain ⟨g2, hm⟩ := gd_e hm
  obtain ⟨y3, c_y3, hm⟩ := bd_e hm
  refine zh_Vi o g2 ml_X8_55 (J_X4_isStore G _ _ _ _  c_y3) dX8_isEndedStore_4 rfl rfl rfl rfl (by omega) (by omega) ?_
  refine zQ.b (fun h => zs_if_eq (tgt := 28) o dX8_isEndedStore_7 (by decide)) (fun c => ?_) (fun c => ?_)
  · have hm := if_e1 hm c
    refine zQ.fg (zl_n zl_0) ?_
    exact hj28 _ _ _ (by omega) (by omega) hm
  · have hm := if_e2 hm c
    refine zQ.s (fun h => zs_aload_n (i := 0) o dX8_isEndedStore_10 rfl rfl) ?_
    obtain ⟨g4, hm⟩ := gd_e hm
    obtain ⟨y5, c_y5, hm⟩ := bd_e hm
    refine zh_Vi o g4 ml_X8_61 (J_X8_isOver G _ _ _ _  c_y5) dX8_isEndedStore_11 rfl rfl rfl rfl (by omega) (by omega) ?_
    refine zQ.b (fun h => zs_if_eq (tgt := 28) o dX8_isEndedStore_14 (by decide)) (fun c => ?_) (fun c => ?_)
    · have hm := if_e1 hm c
      refine zQ.fg (zl_n zl_0) ?_
      exact hj28 _ _ _ (by omega) (by omega) hm
    · have hm := if_e2 hm c
      refine zQ.s (fun h => zs_aload_n (i := 0) o dX8_isEndedStore_17 rfl rfl) ?_
      obtain ⟨g6, hm⟩ := gd_e hm
      refine zh_getI o g6 fl_X8_64_8 rfl dX8_isEndedStore_18 ?_
      refine zQ.b (fun h => zs_if_ne (tgt := 28) o dX8_isEndedStore_21 (by decide)) (fun c => ?_) (fun c => ?_)
      · have hm := if_e2 hm c
        refine zQ.fg (zl_n zl_0) ?_
        exact hj28 _ _ _ (by omega) (by omega) hm
      · have hm := if_e1 hm c
        refine zQ.s (fun h => zs_iconst (v := 1) o dX8_isEndedStore_24 (by decide)) ?_
        refine zQ.s (fun h => zs_goto (tgt := 29) o dX8_isEndedStore_25 (by decide)) ?_
        refine zQ.fg (zl_n zl_0) ?_
        exact hj29 _ _ _ _ (by omega) (by omega) hm

def j_X8_begin (h : zH) (p : Nat) (a1 : Int32) (a2 : Int32) : Option zH :=
  gd (kd h p 8) <|
  gd (wr h p) <|
  lt (pI h 8 14 p (120 : Int32)) fun S3 =>
  gd (kd S3 p 8) <|
  gd (wr S3 p) <|
  lt (pI S3 8 8 p a1) fun S6 =>
  gd (kd S6 p 8) <|
  gd (wr S6 p) <|
  lt (pI S6 8 15 p (a1 + a2)) fun S9 =>
  some S9

set_option maxHeartbeats 40000000 in
theorem J_X8_begin (G : zG) (h : zH) (p : Nat) (a1 : Int32) (a2 : Int32) (h9 : zH) (hm : j_X8_begin h p a1 a2 = some h9) : zJv G yX8_begin cX8_begin 3 none 0 0 0 [zrf p, .int a1, .int a2] h h9 := by
  refine zCo.st [some (zrf p), some (.int a1), some (.int a2)] rfl rfl (by simp only [zarg_r, zarg_i, zarg_l, zarg_0]; rfl) (fun X o f0 hin hw0 => ?_)
  have f := f0.e
  have hin : (Xt X).name = "begin" := hin
  refine (?_ : zQ (EH h) G X 0 0 0 [some (zrf p), some (.int a1), some (.int a2)] []) h rfl hw0
  clear hw0
  generalize hR9 : (h9 : zH) = R at hm
  unfold j_X8_begin at hm
  refine zQ.s (fun h => zs_aload_n (i := 0) o dX8_begin_0 rfl rfl) ?_
  refine zQ.s (fun h => zs_bipush (v := 120) o dX8_begin_1 (by decide)) ?_
  obtain ⟨g1, hm⟩ := gd_e hm
  obtain ⟨g2, hm⟩ := gd_e hm
  obtain ⟨S3, e_S3, hm⟩ := lt_e hm
  refine zh_putI o g1 g2 fl_X8_27_8 rfl rfl ⟨rfl, rfl⟩ dX8_begin_3 e_S3 ?_
  refine zQ.s (fun h => zs_aload_n (i := 0) o dX8_begin_6 rfl rfl) ?_
  refine zQ.s (fun h => zs_iload_n (i := 1) o dX8_begin_7 rfl rfl) ?_
  obtain ⟨g4, hm⟩ := gd_e hm
  obtain ⟨g5, hm⟩ := gd_e hm
  obtain ⟨S6, e_S6, hm⟩ := lt_e hm
  refine zh_putI o g4 g5 fl_X8_15_8 rfl rfl ⟨rfl, rfl⟩ dX8_begin_8 e_S6 ?_
  refine zQ.s (fun h => zs_aload_n (i := 0) o dX8_begin_11 rfl rfl) ?_
  refine zQ.s (fun h => zs_iload_n (i := 1) o dX8_begin_12 rfl rfl) ?_
  refine zQ.s (fun h => zs_iload_n (i := 2) o dX8_begin_13 rfl rfl) ?_
  refine zQ.s (fun h => zs_iadd o dX8_begin_14) ?_
  obtain ⟨g7, hm⟩ := gd_e hm
  obtain ⟨g8, hm⟩ := gd_e hm
  obtain ⟨S9, e_S9, hm⟩ := lt_e hm
  refine zh_putI o g7 g8 fl_X8_67_8 rfl rfl ⟨rfl, rfl⟩ dX8_begin_15 e_S9 ?_
  refine zh_retv o f dX8_begin_18 (by omega) (by omega) ((so_e hm).trans hR9.symm)

def j_X8_waitFor (h : zH) (p : Nat) (a1 : Int32) (a2 : Int32) : Option zH :=
  gd (kd h p 8) <|
  gd (wr h p) <|
  lt (pI h 8 14 p (109 : Int32)) fun S3 =>
  gd (kd S3 p 8) <|
  gd (wr S3 p) <|
  lt (pI S3 8 8 p a2) fun S6 =>
  gd (kd S6 p 8) <|
  gd (wr S6 p) <|
  lt (pI S6 8 20 p a1) fun S9 =>
  some S9

set_option maxHeartbeats 40000000 in
theorem J_X8_waitFor (G : zG) (h : zH) (p : Nat) (a1 : Int32) (a2 : Int32) (h9 : zH) (hm : j_X8_waitFor h p a1 a2 = some h9) : zJv G yX8_waitFor cX8_waitFor 3 none 0 0 0 [zrf p, .int a1, .int a2] h h9 := by
  refine zCo.st [some (zrf p), some (.int a1), some (.int a2)] rfl rfl (by simp only [zarg_r, zarg_i, zarg_l, zarg_0]; rfl) (fun X o f0 hin hw0 => ?_)
  have f := f0.e
  have hin : (Xt X).name = "waitFor" := hin
  refine (?_ : zQ (EH h) G X 0 0 0 [some (zrf p), some (.int a1), some (.int a2)] []) h rfl hw0
  clear hw0
  generalize hR9 : (h9 : zH) = R at hm
  unfold j_X8_waitFor at hm
  refine zQ.s (fun h => zs_aload_n (i := 0) o dX8_waitFor_0 rfl rfl) ?_
  refine zQ.s (fun h => zs_bipush (v := 109) o dX8_waitFor_1 (by decide)) ?_
  obtain ⟨g1, hm⟩ := gd_e hm
  obtain ⟨g2, hm⟩ := gd_e hm
  obtain ⟨S3, e_S3, hm⟩ := lt_e hm
  refine zh_putI o g1 g2 fl_X8_27_8 rfl rfl ⟨rfl, rfl⟩ dX8_waitFor_3 e_S3 ?_
  refine zQ.s (fun h => zs_aload_n (i := 0) o dX8_waitFor_6 rfl rfl) ?_
  refine zQ.s (fun h => zs_iload_n (i := 2) o dX8_waitFor_7 rfl rfl) ?_
  obtain ⟨g4, hm⟩ := gd_e hm
  obtain ⟨g5, hm⟩ := gd_e hm
  obtain ⟨S6, e_S6, hm⟩ := lt_e hm
  refine zh_putI o g4 g5 fl_X8_15_8 rfl rfl ⟨rfl, rfl⟩ dX8_waitFor_8 e_S6 ?_
  refine zQ.s (fun h => zs_aload_n (i := 0) o dX8_waitFor_11 rfl rfl) ?_
  refine zQ.s (fun h => zs_iload_n (i := 1) o dX8_waitFor_12 rfl rfl) ?_
  obtain ⟨g7, hm⟩ := gd_e hm
  obtain ⟨g8, hm⟩ := gd_e hm
  obtain ⟨S9, e_S9, hm⟩ := lt_e hm
  refine zh_putI o g7 g8 fl_X8_31_8 rfl rfl ⟨rfl, rfl⟩ dX8_waitFor_13 e_S9 ?_
  refine zh_retv o f dX8_waitFor_16 (by omega) (by omega) ((so_e hm).trans hR9.symm)

def j_X8_end (h : zH) (p : Nat) (a1 : Int32) : Option zH :=
  gd (kd h p 8) <|
  gd (wr h p) <|
  lt (pI h 8 14 p (101 : Int32)) fun S3 =>
  gd (kd S3 p 8) <|
  gd (wr S3 p) <|
  lt (pI S3 8 9 p a1) fun S6 =>
  some S6

set_option maxHeartbeats 40000000 in
theorem J_X8_end (G : zG) (h : zH) (p : Nat) (a1 : Int32) (h9 : zH) (hm : j_X8_end h p a1 = some h9) : zJv G yX8_end cX8_end 2 none 0 0 0 [zrf p, .int a1] h h9 := by
  refine zCo.st [some (zrf p), some (.int a1)] rfl rfl (by simp only [zarg_r, zarg_i, zarg_l, zarg_0]; rfl) (fun X o f0 hin hw0 => ?_)
  have f := f0.e
  have hin : (Xt X).name = "end" := hin
  refine (?_ : zQ (EH h) G X 0 0 0 [some (zrf p), some (.int a1)] []) h rfl hw0
  clear hw0
  generalize hR9 : (h9 : zH) = R at hm
  unfold j_X8_end at hm
  refine zQ.s (fun h => zs_aload_n (i := 0) o dX8_end_0 rfl rfl) ?_
  refine zQ.s (fun h => zs_bipush (v := 101) o dX8_end_1 (by decide)) ?_
  obtain ⟨g1, hm⟩ := gd_e hm
  obtain ⟨g2, hm⟩ := gd_e hm
  obtain ⟨S3, e_S3, hm⟩ := lt_e hm
  refine zh_putI o g1 g2 fl_X8_27_8 rfl rfl ⟨rfl, rfl⟩ dX8_end_3 e_S3 ?_
  refine zQ.s (fun h => zs_aload_n (i := 0) o dX8_end_6 rfl rfl) ?_
  refine zQ.s (fun h => zs_iload_n (i := 1) o dX8_end_7 rfl rfl) ?_
  obtain ⟨g4, hm⟩ := gd_e hm
  obtain ⟨g5, hm⟩ := gd_e hm
  obtain ⟨S6, e_S6, hm⟩ := lt_e hm
  refine zh_putI o g4 g5 fl_X8_18_8 rfl rfl ⟨rfl, rfl⟩ dX8_end_8 e_S6 ?_
  refine zh_retv o f dX8_end_11 (by omega) (by omega) ((so_e hm).trans hR9.symm)

def j_X8_hasBegunLoadOf_j40 (h : zH) (s0 : Int32) : Option (zH × Int32) :=
  gd (b01 s0) <|
  some (h, s0)
def j_X8_hasBegunLoadOf_j39 (h : zH) : Option (zH × Int32) :=
  j_X8_hasBegunLoadOf_j40 h (0 : Int32)
def j_X8_hasBegunLoadOf (h : zH) (p : Nat) (a1 : Int32) : Option (zH × Int32) :=
  gd (kd h p 8) <|
  gd (kd h (hR h 8 0 p) 4) <|
  if (hI h 4 0 (hR h 8 0 p)) = (9 : Int32) then
    gd (kd h p 8) <|
    if (hI h 8 8 p) = (-1 : Int32) then
      j_X8_hasBegunLoadOf_j39 h
    else
      gd (kd h p 8) <|
      if (hI h 8 16 p) = (0 : Int32) then
        gd (kd h p 8) <|
        if (hI h 8 17 p) = a1 then
          j_X8_hasBegunLoadOf_j40 h (1 : Int32)
        else
          j_X8_hasBegunLoadOf_j39 h
      else
        j_X8_hasBegunLoadOf_j39 h
  else
    j_X8_hasBegunLoadOf_j39 h

set_option maxHeartbeats 40000000 in
theorem J_X8_hasBegunLoadOf (G : zG) (h : zH) (p : Nat) (a1 : Int32) (V : Int32) (h9 : zH) (hm : j_X8_hasBegunLoadOf h p a1 = some (h9, V)) : zJi G yX8_hasBegunLoadOf cX8_hasBegunLoadOf 2 (some .boolean) 0 0 0 [zrf p, .int a1] h V h9 := by
  refine zCo.st [some (zrf p), some (.int a1)] rfl rfl (by simp only [zarg_r, zarg_i, zarg_l, zarg_0]; rfl) (fun X o f0 hin hw0 => ?_)
  have f := f0.e
  have hin : (Xt X).name = "hasBegunLoadOf" := hin
  refine (?_ : zQ (EH h) G X 0 0 0 [some (zrf p), some (.int a1)] []) h rfl hw0
  clear hw0
  generalize hR9 : ((h9, V) : (zH × Int32)) = R at hm
  have hj40 : ∀ (h : zH) (s0 : Int32) (cl sl : Nat), cl + (0) ≤ 0 → sl + (0) ≤ 0 → j_X8_hasBegunLoadOf_j40 h s0 = some R → zQ (EH h) G X cl sl 40 [none, none] [.int s0] := by
    intro h s0 cl sl hc hs hm
    unfold j_X8_hasBegunLoadOf_j40 at hm
    obtain ⟨g1, hm⟩ := gd_e hm
    refine zh_reti o f dX8_hasBegunLoadOf_40 (b01_e g1).1 (by omega) (by omega) ((so_e hm).trans hR9.symm)
  have hj39 : ∀ (h : zH) (cl sl : Nat), cl + (0) ≤ 0 → sl + (0) ≤ 0 → j_X8_hasBegunLoadOf_j39 h = some R → zQ (EH h) G X cl sl 39 [none, none] [] := by
    intro h cl sl hc hs hm
    unfold j_X8_hasBegunLoadOf_j39 at hm
    refine zQ.s (fun h => zs_iconst (v := 0) o dX8_hasBegunLoadOf_39 (by decide)) ?_
    exact hj40 _ _ _ _ (by omega) (by omega) hm
  unfold j_X8_hasBegunLoadOf at hm
  refine zQ.s (fun h => zs_aload_n (i := 0) o dX8_hasBegunLoadOf_0 rfl rfl) ?_
  obtain ⟨g1, hm⟩ := gd_e hm
  refine zh_getR o g1 fl_X8_34_8 rfl dX8_hasBegunLoadOf_1 ?_
  obtain ⟨g2, hm⟩ := gd_e hm
  refine zh_getI o g2 fl_X8_70_4 rfl dX8_hasBegunLoadOf_4 ?_
  refine zQ.s (fun h => zs_bipush (v := 9) o dX8_hasBegunLoadOf_7 (by decide)) ?_
  refine zQ.b (fun h => zs_icmp_ne (tgt := 39) o dX8_hasBegunLoadOf_9 (by decide)) (fun c => ?_) (fun c => ?_)
  · have hm := if_e2 hm c
    refine zQ.fg (zl_n (zl_n zl_0)) ?_
    exact hj39 _ _ _ (by omega) (by omega) hm
  · have hm := if_e1 hm c
    refine zQ.s (fun h => zs_aload_n (i := 0) o dX8_hasBegunLoadOf_12 rfl rfl) ?_
    obtain ⟨g3, hm⟩ := gd_e hm
    refine zh_getI o g3 fl_X8_15_8 rfl dX8_hasBegunLoadOf_13 ?_
    refine zQ.s (fun h => zs_iconst (v := -1) o dX8_hasBegunLoadOf_16 (by decide)) ?_
    refine zQ.b (fun h => zs_icmp_eq (tgt := 39) o dX8_hasBegunLoadOf_17 (by decide)) (fun c => ?_) (fun c => ?_)
    · have hm := if_e1 hm c
      refine zQ.fg (zl_n (zl_n zl_0)) ?_
      exact hj39 _ _ _ (by omega) (by omega) hm
    · have hm := if_e2 hm c
      refine zQ.s (fun h => zs_aload_n (i := 0) o dX8_hasBegunLoadOf_20 rfl rfl) ?_
      obtain ⟨g4, hm⟩ := gd_e hm
      refine zh_getI o g4 fl_X8_64_8 rfl dX8_hasBegunLoadOf_21 ?_
      refine zQ.b (fun h => zs_if_ne (tgt := 39) o dX8_hasBegunLoadOf_24 (by decide)) (fun c => ?_) (fun c => ?_)
      · have hm := if_e2 hm c
        refine zQ.fg (zl_n (zl_n zl_0)) ?_
        exact hj39 _ _ _ (by omega) (by omega) hm
      · have hm := if_e1 hm c
        refine zQ.s (fun h => zs_aload_n (i := 0) o dX8_hasBegunLoadOf_27 rfl rfl) ?_
        obtain ⟨g5, hm⟩ := gd_e hm
        refine zh_getI o g5 fl_X8_73_8 rfl dX8_hasBegunLoadOf_28 ?_
        refine zQ.s (fun h => zs_iload_n (i := 1) o dX8_hasBegunLoadOf_31 rfl rfl) ?_
        refine zQ.b (fun h => zs_icmp_ne (tgt := 39) o dX8_hasBegunLoadOf_32 (by decide)) (fun c => ?_) (fun c => ?_)
        · have hm := if_e2 hm c
          refine zQ.fg (zl_n (zl_n zl_0)) ?_
          exact hj39 _ _ _ (by omega) (by omega) hm
        · have hm := if_e1 hm c
          refine zQ.s (fun h => zs_iconst (v := 1) o dX8_hasBegunLoadOf_35 (by decide)) ?_
          refine zQ.s (fun h => zs_goto (tgt := 40) o dX8_hasBegunLoadOf_36 (by decide)) ?_
          refine zQ.fg (zl_n (zl_n zl_0)) ?_
          exact hj40 _ _ _ _ (by omega) (by omega) hm

def j_X8_init (h : zH) (p : Nat) (a1 : Nat) (a2 : Int32) (a3 : Int32) (a4 : Int64) (a5 : Nat) : Option zH :=
  gd (nzr p) <|
  gd (kd h p 8) <|
  gd (wr h p) <|
  lt (pI h 8 7 p (-1 : Int32)) fun S4 =>
  gd (kd S4 p 8) <|
  gd (wr S4 p) <|
  lt (pI S4 8 8 p (-1 : Int32)) fun S7 =>
  gd (kd S7 p 8) <|
  gd (wr S7 p) <|
  lt (pI S7 8 9 p (-1 : Int32)) fun S10 =>
  gd (kd S10 p 8) <|
  gd (wr S10 p) <|
  lt (pI S10 8 12 p (-1 : Int32)) fun S13 =>
  gd (kd S13 p 8) <|
  gd (wr S13 p) <|
  lt (pI S13 8 13 p (-1 : Int32)) fun S16 =>
  gd (kd S16 p 8) <|
  gd (wr S16 p) <|
  lt (pI S16 8 14 p (102 : Int32)) fun S19 =>
  gd (kd S19 p 8) <|
  gd (wr S19 p) <|
  lt (pI S19 8 20 p (-1 : Int32)) fun S22 =>
  gd (kd S22 p 8) <|
  gd (wr S22 p) <|
  lt (pR S22 8 0 p a1) fun S25 =>
  gd (kd S25 p 8) <|
  gd (wr S25 p) <|
  lt (pI S25 8 1 p a2) fun S28 =>
  gd (kd S28 p 8) <|
  gd (wr S28 p) <|
  lt (pL S28 8 3 p a4) fun S31 =>
  gd (kd S31 p 8) <|
  gd (wr S31 p) <|
  lt (pI S31 8 2 p a3) fun S34 =>
  gd (kd S34 p 8) <|
  gd (wr S34 p) <|
  lt (pR S34 8 4 p a5) fun S37 =>
  gd (kd S37 p 8) <|
  gd (wr S37 p) <|
  lt (pI S37 8 19 p (a2 + (1 : Int32))) fun S40 =>
  some S40

set_option maxHeartbeats 40000000 in
theorem J_X8_init (G : zG) (h : zH) (p : Nat) (a1 : Nat) (a2 : Int32) (a3 : Int32) (a4 : Int64) (a5 : Nat) (h9 : zH) (hm : j_X8_init h p a1 a2 a3 a4 a5 = some h9) : zJv G yX8_init cX8_init 7 none 1 0 0 [zrf p, zrf a1, .int a2, .int a3, .long a4, zrf a5] h h9 := by
  refine zCo.st [some (zrf p), some (zrf a1), some (.int a2), some (.int a3), some (.long a4), none, some (zrf a5)] rfl rfl (by simp only [zarg_r, zarg_i, zarg_l, zarg_0]; rfl) (fun X o f0 hin hw0 => ?_)
  have f := f0.e
  have hin : (Xt X).name = "<init>" := hin
  refine (?_ : zQ (EH h) G X 0 0 0 [some (zrf p), some (zrf a1), some (.int a2), some (.int a3), some (.long a4), none, some (zrf a5)] []) h rfl hw0
  clear hw0
  generalize hR9 : (h9 : zH) = R at hm
  unfold j_X8_init at hm
  refine zQ.s (fun h => zs_aload_n (i := 0) o dX8_init_0 rfl rfl) ?_
  obtain ⟨g1, hm⟩ := gd_e hm
  refine zh_objInit o g1 q2169 q163 q164 dX8_init_1 rfl rfl ?_
  refine zQ.s (fun h => zs_aload_n (i := 0) o dX8_init_4 rfl rfl) ?_
  refine zQ.s (fun h => zs_iconst (v := -1) o dX8_init_5 (by decide)) ?_
  obtain ⟨g2, hm⟩ := gd_e hm
  obtain ⟨g3, hm⟩ := gd_e hm
  obtain ⟨S4, e_S4, hm⟩ := lt_e hm
  refine zh_putI o g2 g3 fl_X8_9_8 rfl rfl ⟨rfl, rfl⟩ dX8_init_6 e_S4 ?_
  refine zQ.s (fun h => zs_aload_n (i := 0) o dX8_init_9 rfl rfl) ?_
  refine zQ.s (fun h => zs_iconst (v := -1) o dX8_init_10 (by decide)) ?_
  obtain ⟨g5, hm⟩ := gd_e hm
  obtain ⟨g6, hm⟩ := gd_e hm
  obtain ⟨S7, e_S7, hm⟩ := lt_e hm
  refine zh_putI o g5 g6 fl_X8_15_8 rfl rfl ⟨rfl, rfl⟩ dX8_init_11 e_S7 ?_
  refine zQ.s (fun h => zs_aload_n (i := 0) o dX8_init_14 rfl rfl) ?_
  refine zQ.s (fun h => zs_iconst (v := -1) o dX8_init_15 (by decide)) ?_
  obtain ⟨g8, hm⟩ := gd_e hm
  obtain ⟨g9, hm⟩ := gd_e hm
  obtain ⟨S10, e_S10, hm⟩ := lt_e hm
  refine zh_putI o g8 g9 fl_X8_18_8 rfl rfl ⟨rfl, rfl⟩ dX8_init_16 e_S10 ?_
  refine zQ.s (fun h => zs_aload_n (i := 0) o dX8_init_19 rfl rfl) ?_
  refine zQ.s (fun h => zs_iconst (v := -1) o dX8_init_20 (by decide)) ?_
  obtain ⟨g11, hm⟩ := gd_e hm
  obtain ⟨g12, hm⟩ := gd_e hm
  obtain ⟨S13, e_S13, hm⟩ := lt_e hm
  refine zh_putI o g11 g12 fl_X8_21_8 rfl rfl ⟨rfl, rfl⟩ dX8_init_21 e_S13 ?_
  refine zQ.s (fun h => zs_aload_n (i := 0) o dX8_init_24 rfl rfl) ?_
  refine zQ.s (fun h => zs_iconst (v := -1) o dX8_init_25 (by decide)) ?_
  obtain ⟨g14, hm⟩ := gd_e hm
  obtain ⟨g15, hm⟩ := gd_e hm
  obtain ⟨S16, e_S16, hm⟩ := lt_e hm
  refine zh_putI o g14 g15 fl_X8_24_8 rfl rfl ⟨rfl, rfl⟩ dX8_init_26 e_S16 ?_
  refine zQ.s (fun h => zs_aload_n (i := 0) o dX8_init_29 rfl rfl) ?_
  refine zQ.s (fun h => zs_bipush (v := 102) o dX8_init_30 (by decide)) ?_
  obtain ⟨g17, hm⟩ := gd_e hm
  obtain ⟨g18, hm⟩ := gd_e hm
  obtain ⟨S19, e_S19, hm⟩ := lt_e hm
  refine zh_putI o g17 g18 fl_X8_27_8 rfl rfl ⟨rfl, rfl⟩ dX8_init_32 e_S19 ?_
  refine zQ.s (fun h => zs_aload_n (i := 0) o dX8_init_35 rfl rfl) ?_
  refine zQ.s (fun h => zs_iconst (v := -1) o dX8_init_36 (by decide)) ?_
  obtain ⟨g20, hm⟩ := gd_e hm
  obtain ⟨g21, hm⟩ := gd_e hm
  obtain ⟨S22, e_S22, hm⟩ := lt_e hm
  refine zh_putI o g20 g21 fl_X8_31_8 rfl rfl ⟨rfl, rfl⟩ dX8_init_37 e_S22 ?_
  refine zQ.s (fun h => zs_aload_n (i := 0) o dX8_init_40 rfl rfl) ?_
  refine zQ.s (fun h => zs_aload_n (i := 1) o dX8_init_41 rfl rfl) ?_
  obtain ⟨g23, hm⟩ := gd_e hm
  obtain ⟨g24, hm⟩ := gd_e hm
  obtain ⟨S25, e_S25, hm⟩ := lt_e hm
  refine zh_putRF o hin g23 g24 fl_X8_34_8 rfl ⟨rfl, rfl⟩ dX8_init_42 e_S25 ?_
  refine zQ.s (fun h => zs_aload_n (i := 0) o dX8_init_45 rfl rfl) ?_
  refine zQ.s (fun h => zs_iload_n (i := 2) o dX8_init_46 rfl rfl) ?_
  obtain ⟨g26, hm⟩ := gd_e hm
  obtain ⟨g27, hm⟩ := gd_e hm
  obtain ⟨S28, e_S28, hm⟩ := lt_e hm
  refine zh_putIF o hin g26 g27 fl_X8_38_8 rfl ⟨rfl, rfl⟩ ⟨rfl, rfl⟩ dX8_init_47 e_S28 ?_
  refine zQ.s (fun h => zs_aload_n (i := 0) o dX8_init_50 rfl rfl) ?_
  refine zQ.s (fun h => zs_lload (i := 4) o dX8_init_51 rfl) ?_
  obtain ⟨g29, hm⟩ := gd_e hm
  obtain ⟨g30, hm⟩ := gd_e hm
  obtain ⟨S31, e_S31, hm⟩ := lt_e hm
  refine zh_putLF o hin g29 g30 fl_X8_41_8 rfl ⟨rfl, rfl⟩ dX8_init_53 e_S31 ?_
  refine zQ.s (fun h => zs_aload_n (i := 0) o dX8_init_56 rfl rfl) ?_
  refine zQ.s (fun h => zs_iload_n (i := 3) o dX8_init_57 rfl rfl) ?_
  obtain ⟨g32, hm⟩ := gd_e hm
  obtain ⟨g33, hm⟩ := gd_e hm
  obtain ⟨S34, e_S34, hm⟩ := lt_e hm
  refine zh_putIF o hin g32 g33 fl_X8_45_8 rfl ⟨rfl, rfl⟩ ⟨rfl, rfl⟩ dX8_init_58 e_S34 ?_
  refine zQ.s (fun h => zs_aload_n (i := 0) o dX8_init_61 rfl rfl) ?_
  refine zQ.s (fun h => zs_aload (i := 6) o dX8_init_62 rfl) ?_
  obtain ⟨g35, hm⟩ := gd_e hm
  obtain ⟨g36, hm⟩ := gd_e hm
  obtain ⟨S37, e_S37, hm⟩ := lt_e hm
  refine zh_putRF o hin g35 g36 fl_X8_48_8 rfl ⟨rfl, rfl⟩ dX8_init_64 e_S37 ?_
  refine zQ.s (fun h => zs_aload_n (i := 0) o dX8_init_67 rfl rfl) ?_
  refine zQ.s (fun h => zs_iload_n (i := 2) o dX8_init_68 rfl rfl) ?_
  refine zQ.s (fun h => zs_iconst (v := 1) o dX8_init_69 (by decide)) ?_
  refine zQ.s (fun h => zs_iadd o dX8_init_70) ?_
  obtain ⟨g38, hm⟩ := gd_e hm
  obtain ⟨g39, hm⟩ := gd_e hm
  obtain ⟨S40, e_S40, hm⟩ := lt_e hm
  refine zh_putI o g38 g39 fl_X8_52_8 rfl rfl ⟨rfl, rfl⟩ dX8_init_71 e_S40 ?_
  refine zh_retv o f dX8_init_74 (by omega) (by omega) ((so_e hm).trans hR9.symm)

def j_X9_init (h : zH) (p : Nat) (a1 : Nat) (a2 : Nat) (a3 : Nat) (a4 : Nat) : Option zH :=
  gd (nzr p) <|
  lt (zT h + 1) fun r2 =>
  lt (nw h 201 60 8) fun S3 =>
  gd (kd S3 p 9) <|
  gd (wr S3 p) <|
  lt (pR S3 9 1 p r2) fun S6 =>
  lt (zT S6 + 1) fun r7 =>
  lt (nw S6 201 61 64) fun S8 =>
  gd (kd S8 p 9) <|
  gd (wr S8 p) <|
  lt (pR S8 9 2 p r7) fun S11 =>
  gd (kd S11 p 9) <|
  gd (wr S11 p) <|
  lt (pR S11 9 0 p a1) fun S14 =>
  gd (kd S14 p 9) <|
  gd (wr S14 p) <|
  lt (pR S14 9 3 p a4) fun S17 =>
  gd (kd S17 p 9) <|
  gd (kd S17 a2 201) <|
  gd (kd S17 (hR S17 9 1 p) 201) <|
  gd (wr S17 (hR S17 9 1 p)) <|
  gd (cpk (0 : Int32) (8 : Int32) (zN S17 a2)) <|
  gd (cpk (0 : Int32) (8 : Int32) (zN S17 (hR S17 9 1 p))) <|
  gd (npq a2 (hR S17 9 1 p)) <|
  lt (cpI S17 a2 (hR S17 9 1 p) (ix (0 : Int32)) (ix (0 : Int32)) (ix (8 : Int32))) fun S25 =>
  gd (kd S25 p 9) <|
  gd (kd S25 a3 201) <|
  gd (kd S25 (hR S25 9 2 p) 201) <|
  gd (wr S25 (hR S25 9 2 p)) <|
  gd (cpk (0 : Int32) (64 : Int32) (zN S25 a3)) <|
  gd (cpk (0 : Int32) (64 : Int32) (zN S25 (hR S25 9 2 p))) <|
  gd (npq a3 (hR S25 9 2 p)) <|
  lt (cpI S25 a3 (hR S25 9 2 p) (ix (0 : Int32)) (ix (0 : Int32)) (ix (64 : Int32))) fun S33 =>
  some S33

set_option maxHeartbeats 40000000 in
theorem J_X9_init (G : zG) (h : zH) (p : Nat) (a1 : Nat) (a2 : Nat) (a3 : Nat) (a4 : Nat) (h9 : zH) (hm : j_X9_init h p a1 a2 a3 a4 = some h9) : zJv G yX9_init cX9_init 5 none 1 2 72 [zrf p, zrf a1, zrf a2, zrf a3, zrf a4] h h9 := by
  refine zCo.st [some (zrf p), some (zrf a1), some (zrf a2), some (zrf a3), some (zrf a4)] rfl rfl (by simp only [zarg_r, zarg_i, zarg_l, zarg_0]; rfl) (fun X o f0 hin hw0 => ?_)
  have f := f0.e
  have hin : (Xt X).name = "<init>" := hin
  refine (?_ : zQ (EH h) G X 0 0 0 [some (zrf p), some (zrf a1), some (zrf a2), some (zrf a3), some (zrf a4)] []) h rfl hw0
  clear hw0
  generalize hR9 : (h9 : zH) = R at hm
  unfold j_X9_init at hm
  refine zQ.s (fun h => zs_aload_n (i := 0) o dX9_init_0 rfl rfl) ?_
  obtain ⟨g1, hm⟩ := gd_e hm
  refine zh_objInit o g1 q967 q163 q164 dX9_init_1 rfl rfl ?_
  refine zQ.s (fun h => zs_aload_n (i := 0) o dX9_init_4 rfl rfl) ?_
  refine zQ.s (fun h => zs_bipush (v := 8) o dX9_init_5 (by decide)) ?_
  obtain ⟨r2, e_r2, hm⟩ := lt_e hm
  obtain ⟨S3, e_S3, hm⟩ := lt_e hm
  refine zh_newarr (N := 8) (c := 201) o (by decide) rfl q222 (by decide) rfl (by decide) dX9_init_7 (by omega) (by omega) e_S3 ?_
  refine zQ.nmr e_r2 ?_
  obtain ⟨g4, hm⟩ := gd_e hm
  obtain ⟨g5, hm⟩ := gd_e hm
  obtain ⟨S6, e_S6, hm⟩ := lt_e hm
  refine zh_putRF o hin g4 g5 fl_X9_9_9 rfl ⟨rfl, rfl⟩ dX9_init_9 e_S6 ?_
  refine zQ.s (fun h => zs_aload_n (i := 0) o dX9_init_12 rfl rfl) ?_
  refine zQ.s (fun h => zs_bipush (v := 64) o dX9_init_13 (by decide)) ?_
  obtain ⟨r7, e_r7, hm⟩ := lt_e hm
  obtain ⟨S8, e_S8, hm⟩ := lt_e hm
  refine zh_newarr (N := 64) (c := 201) o (by decide) rfl q222 (by decide) rfl (by decide) dX9_init_15 (by omega) (by omega) e_S8 ?_
  refine zQ.nmr e_r7 ?_
  obtain ⟨g9, hm⟩ := gd_e hm
  obtain ⟨g10, hm⟩ := gd_e hm
  obtain ⟨S11, e_S11, hm⟩ := lt_e hm
  refine zh_putRF o hin g9 g10 fl_X9_15_9 rfl ⟨rfl, rfl⟩ dX9_init_17 e_S11 ?_
  refine zQ.s (fun h => zs_aload_n (i := 0) o dX9_init_20 rfl rfl) ?_
  refine zQ.s (fun h => zs_aload_n (i := 1) o dX9_init_21 rfl rfl) ?_
  obtain ⟨g12, hm⟩ := gd_e hm
  obtain ⟨g13, hm⟩ := gd_e hm
  obtain ⟨S14, e_S14, hm⟩ := lt_e hm
  refine zh_putRF o hin g12 g13 fl_X9_18_9 rfl ⟨rfl, rfl⟩ dX9_init_22 e_S14 ?_
  refine zQ.s (fun h => zs_aload_n (i := 0) o dX9_init_25 rfl rfl) ?_
  refine zQ.s (fun h => zs_aload (i := 4) o dX9_init_26 rfl) ?_
  obtain ⟨g15, hm⟩ := gd_e hm
  obtain ⟨g16, hm⟩ := gd_e hm
  obtain ⟨S17, e_S17, hm⟩ := lt_e hm
  refine zh_putRF o hin g15 g16 fl_X9_22_9 rfl ⟨rfl, rfl⟩ dX9_init_28 e_S17 ?_
  refine zQ.s (fun h => zs_aload_n (i := 2) o dX9_init_31 rfl rfl) ?_
  refine zQ.s (fun h => zs_iconst (v := 0) o dX9_init_32 (by decide)) ?_
  refine zQ.s (fun h => zs_aload_n (i := 0) o dX9_init_33 rfl rfl) ?_
  obtain ⟨g18, hm⟩ := gd_e hm
  refine zh_getR o g18 fl_X9_9_9 rfl dX9_init_34 ?_
  refine zQ.s (fun h => zs_iconst (v := 0) o dX9_init_37 (by decide)) ?_
  refine zQ.s (fun h => zs_bipush (v := 8) o dX9_init_38 (by decide)) ?_
  obtain ⟨g19, hm⟩ := gd_e hm
  obtain ⟨g20, hm⟩ := gd_e hm
  obtain ⟨g21, hm⟩ := gd_e hm
  obtain ⟨g22, hm⟩ := gd_e hm
  obtain ⟨g23, hm⟩ := gd_e hm
  obtain ⟨g24, hm⟩ := gd_e hm
  obtain ⟨S25, e_S25, hm⟩ := lt_e hm
  refine zh_copyI o q968 q425 q424 q129 g19 g20 g21 g22 g23 g24 dX9_init_40 e_S25 rfl rfl ?_
  refine zQ.s (fun h => zs_aload_n (i := 3) o dX9_init_43 rfl rfl) ?_
  refine zQ.s (fun h => zs_iconst (v := 0) o dX9_init_44 (by decide)) ?_
  refine zQ.s (fun h => zs_aload_n (i := 0) o dX9_init_45 rfl rfl) ?_
  obtain ⟨g26, hm⟩ := gd_e hm
  refine zh_getR o g26 fl_X9_15_9 rfl dX9_init_46 ?_
  refine zQ.s (fun h => zs_iconst (v := 0) o dX9_init_49 (by decide)) ?_
  refine zQ.s (fun h => zs_bipush (v := 64) o dX9_init_50 (by decide)) ?_
  obtain ⟨g27, hm⟩ := gd_e hm
  obtain ⟨g28, hm⟩ := gd_e hm
  obtain ⟨g29, hm⟩ := gd_e hm
  obtain ⟨g30, hm⟩ := gd_e hm
  obtain ⟨g31, hm⟩ := gd_e hm
  obtain ⟨g32, hm⟩ := gd_e hm
  obtain ⟨S33, e_S33, hm⟩ := lt_e hm
  refine zh_copyI o q968 q425 q424 q129 g27 g28 g29 g30 g31 g32 dX9_init_52 e_S33 rfl rfl ?_
  refine zh_retv o f dX9_init_55 (by omega) (by omega) ((so_e hm).trans hR9.symm)

def j_X9_interrupt (h : zH) (p : Nat) : Option (zH × Int32) :=
  gd (kd h p 9) <|
  lt (hI h 9 4 p) fun v2 =>
  gd (kd h p 9) <|
  gd (kd h (hR h 9 3 p) 2) <|
  bd (j_X2_interrupt h (hR h 9 3 p) v2) fun y5 =>
  gd (kd y5.1 p 9) <|
  gd (wr y5.1 p) <|
  lt (pI y5.1 9 4 p y5.2) fun S8 =>
  some (S8, v2)

set_option maxHeartbeats 40000000 in
theorem J_X9_interrupt (G : zG) (h : zH) (p : Nat) (V : Int32) (h9 : zH) (hm : j_X9_interrupt h p = some (h9, V)) : zJi G yX9_interrupt cX9_interrupt 2 (some .int) 1 0 0 [zrf p] h V h9 := by
  refine zCo.st [some (zrf p), none] rfl rfl (by simp only [zarg_r, zarg_i, zarg_l, zarg_0]; rfl) (fun X o f0 hin hw0 => ?_)
  have f := f0.e
  have hin : (Xt X).name = "interrupt" := hin
  refine (?_ : zQ (EH h) G X 0 0 0 [some (zrf p), none] []) h rfl hw0
  clear hw0
  generalize hR9 : ((h9, V) : (zH × Int32)) = R at hm
  unfold j_X9_interrupt at hm
  refine zQ.s (fun h => zs_aload_n (i := 0) o dX9_interrupt_0 rfl rfl) ?_
  obtain ⟨g1, hm⟩ := gd_e hm
  refine zh_getI o g1 fl_X9_32_9 rfl dX9_interrupt_1 ?_
  obtain ⟨v2, e_v2, hm⟩ := lt_e hm
  refine zQ.nmi e_v2 ?_
  refine zQ.s (fun h => zs_istore_n (i := 1) o dX9_interrupt_4 rfl (by decide) (Or.inr (zc2_ref rfl)) (by simp only [List.set_cons_succ, List.set_cons_zero]; rfl)) ?_
  refine zQ.s (fun h => zs_aload_n (i := 0) o dX9_interrupt_5 rfl rfl) ?_
  refine zQ.s (fun h => zs_aload_n (i := 0) o dX9_interrupt_6 rfl rfl) ?_
  obtain ⟨g3, hm⟩ := gd_e hm
  refine zh_getR o g3 fl_X9_22_9 rfl dX9_interrupt_7 ?_
  refine zQ.s (fun h => zs_iload_n (i := 1) o dX9_interrupt_10 rfl rfl) ?_
  obtain ⟨g4, hm⟩ := gd_e hm
  obtain ⟨y5, c_y5, hm⟩ := bd_e hm
  refine zh_Vi o g4 ml_X9_36 (J_X2_interrupt G _ _ _ _ _  c_y5) dX9_interrupt_11 rfl rfl rfl rfl (by omega) (by omega) ?_
  obtain ⟨g6, hm⟩ := gd_e hm
  obtain ⟨g7, hm⟩ := gd_e hm
  obtain ⟨S8, e_S8, hm⟩ := lt_e hm
  refine zh_putI o g6 g7 fl_X9_32_9 rfl rfl ⟨rfl, rfl⟩ dX9_interrupt_14 e_S8 ?_
  refine zQ.s (fun h => zs_iload_n (i := 1) o dX9_interrupt_17 rfl rfl) ?_
  refine zh_reti o f dX9_interrupt_18 rfl (by omega) (by omega) ((so_e hm).trans hR9.symm)

def j_X9_trap_j31 (h : zH) (s1 : Int32) (s0 : Nat) : Option zH :=
  gd (b01 s1) <|
  gd (kd h s0 9) <|
  gd (wr h s0) <|
  lt (pI h 9 5 s0 s1) fun S4 =>
  some S4
def j_X9_trap (h : zH) (p : Nat) : Option zH :=
  gd (kd h p 9) <|
  gd (kd h p 9) <|
  gd (kd h (hR h 9 3 p) 2) <|
  bd (j_X2_trap h (hR h 9 3 p) ((hI h 9 4 p) + (1 : Int32))) fun y4 =>
  gd (kd y4.1 p 9) <|
  gd (wr y4.1 p) <|
  lt (pI y4.1 9 4 p y4.2) fun S7 =>
  gd (kd S7 p 9) <|
  if (hI S7 9 4 p) = (-1 : Int32) then
    j_X9_trap_j31 S7 (1 : Int32) p
  else
    j_X9_trap_j31 S7 (0 : Int32) p

set_option maxHeartbeats 40000000 in
theorem J_X9_trap (G : zG) (h : zH) (p : Nat) (h9 : zH) (hm : j_X9_trap h p = some h9) : zJv G yX9_trap cX9_trap 1 none 1 0 0 [zrf p] h h9 := by
  refine zCo.st [some (zrf p)] rfl rfl (by simp only [zarg_r, zarg_i, zarg_l, zarg_0]; rfl) (fun X o f0 hin hw0 => ?_)
  have f := f0.e
  have hin : (Xt X).name = "trap" := hin
  refine (?_ : zQ (EH h) G X 0 0 0 [some (zrf p)] []) h rfl hw0
  clear hw0
  generalize hR9 : (h9 : zH) = R at hm
  have hj31 : ∀ (h : zH) (s1 : Int32) (s0 : Nat) (cl sl : Nat), cl + (0) ≤ 0 → sl + (0) ≤ 0 → j_X9_trap_j31 h s1 s0 = some R → zQ (EH h) G X cl sl 31 [none] [.int s1, zrf s0] := by
    intro h s1 s0 cl sl hc hs hm
    unfold j_X9_trap_j31 at hm
    obtain ⟨g1, hm⟩ := gd_e hm
    obtain ⟨g2, hm⟩ := gd_e hm
    obtain ⟨g3, hm⟩ := gd_e hm
    obtain ⟨S4, e_S4, hm⟩ := lt_e hm
    refine zh_putI o g2 g3 fl_X9_45_9 rfl rfl (b01_e g1) dX9_trap_31 e_S4 ?_
    refine zh_retv o f dX9_trap_34 (by omega) (by omega) ((so_e hm).trans hR9.symm)
  unfold j_X9_trap at hm
  refine zQ.s (fun h => zs_aload_n (i := 0) o dX9_trap_0 rfl rfl) ?_
  refine zQ.s (fun h => zs_aload_n (i := 0) o dX9_trap_1 rfl rfl) ?_
  obtain ⟨g1, hm⟩ := gd_e hm
  refine zh_getR o g1 fl_X9_22_9 rfl dX9_trap_2 ?_
  refine zQ.s (fun h => zs_aload_n (i := 0) o dX9_trap_5 rfl rfl) ?_
  obtain ⟨g2, hm⟩ := gd_e hm
  refine zh_getI o g2 fl_X9_32_9 rfl dX9_trap_6 ?_
  refine zQ.s (fun h => zs_iconst (v := 1) o dX9_trap_9 (by decide)) ?_
  refine zQ.s (fun h => zs_iadd o dX9_trap_10) ?_
  obtain ⟨g3, hm⟩ := gd_e hm
  obtain ⟨y4, c_y4, hm⟩ := bd_e hm
  refine zh_Vi o g3 ml_X9_42 (J_X2_trap G _ _ _ _ _  c_y4) dX9_trap_11 rfl rfl rfl rfl (by omega) (by omega) ?_
  obtain ⟨g5, hm⟩ := gd_e hm
  obtain ⟨g6, hm⟩ := gd_e hm
  obtain ⟨S7, e_S7, hm⟩ := lt_e hm
  refine zh_putI o g5 g6 fl_X9_32_9 rfl rfl ⟨rfl, rfl⟩ dX9_trap_14 e_S7 ?_
  refine zQ.s (fun h => zs_aload_n (i := 0) o dX9_trap_17 rfl rfl) ?_
  refine zQ.s (fun h => zs_aload_n (i := 0) o dX9_trap_18 rfl rfl) ?_
  obtain ⟨g8, hm⟩ := gd_e hm
  refine zh_getI o g8 fl_X9_32_9 rfl dX9_trap_19 ?_
  refine zQ.s (fun h => zs_iconst (v := -1) o dX9_trap_22 (by decide)) ?_
  refine zQ.b (fun h => zs_icmp_ne (tgt := 30) o dX9_trap_23 (by decide)) (fun c => ?_) (fun c => ?_)
  · have hm := if_e2 hm c
    refine zQ.s (fun h => zs_iconst (v := 0) o dX9_trap_30 (by decide)) ?_
    refine zQ.fg (zl_n zl_0) ?_
    exact hj31 _ _ _ _ _ (by omega) (by omega) hm
  · have hm := if_e1 hm c
    refine zQ.s (fun h => zs_iconst (v := 1) o dX9_trap_26 (by decide)) ?_
    refine zQ.s (fun h => zs_goto (tgt := 31) o dX9_trap_27 (by decide)) ?_
    refine zQ.fg (zl_n zl_0) ?_
    exact hj31 _ _ _ _ _ (by omega) (by omega) hm

def j_X9_trapOf_j100 (h : zH) (s0 : Int32) : Option (zH × Int32) :=
  some (h, s0)
def j_X9_trapOf_j99 (h : zH) : Option (zH × Int32) :=
  j_X9_trapOf_j100 h (0 : Int32)
def j_X9_trapOf_j65 (h : zH) (x0 : Nat) (x1 : Nat) : Option (zH × Int32) :=
  gd (kd h x1 4) <|
  if (hI h 4 0 x1) = (20 : Int32) then
    some (h, (4 : Int32))
  else
    gd (kd h x1 4) <|
    if (hI h 4 0 x1) = (21 : Int32) then
      gd (kd h x0 9) <|
      gd (kd h (hR h 9 3 x0) 2) <|
      if (hI h 2 2 (hR h 9 3 x0)) = (0 : Int32) then
        j_X9_trapOf_j100 h (5 : Int32)
      else
        j_X9_trapOf_j99 h
    else
      j_X9_trapOf_j99 h
def j_X9_trapOf_j49 (h : zH) (x0 : Nat) (x1 : Nat) (x2 : Int32) : Option (zH × Int32) :=
  gd (kd h x1 4) <|
  bd (j_X4_isIndirect h x1) fun y2 =>
  if y2.2 = (0 : Int32) then
    j_X9_trapOf_j65 y2.1 x0 x1
  else
    bd (j_X1_isPlace y2.1 x2) fun y3 =>
    if y3.2 = (0 : Int32) then
      some (y3.1, (3 : Int32))
    else
      j_X9_trapOf_j65 y3.1 x0 x1
def j_X9_trapOf (h : zH) (p : Nat) (a1 : Nat) : Option (zH × Int32) :=
  gd (kd h p 9) <|
  gd (kd h a1 4) <|
  gd (kd h (hR h 9 1 p) 201) <|
  gd (inb (hI h 4 2 a1) (zN h (hR h 9 1 p))) <|
  lt (hI h 201 (ix (hI h 4 2 a1)) (hR h 9 1 p)) fun v5 =>
  gd (kd h p 9) <|
  gd (kd h a1 4) <|
  gd (kd h (hR h 9 1 p) 201) <|
  gd (inb (hI h 4 3 a1) (zN h (hR h 9 1 p))) <|
  gd (kd h a1 4) <|
  bd (j_X4_traps h a1 (hI h 201 (ix (hI h 4 3 a1)) (hR h 9 1 p))) fun y11 =>
  if y11.2 = (0 : Int32) then
    gd (kd y11.1 a1 4) <|
    bd (j_X4_isForMemory y11.1 a1) fun y13 =>
    if y13.2 = (0 : Int32) then
      j_X9_trapOf_j49 y13.1 p a1 v5
    else
      gd (kd y13.1 a1 4) <|
      bd (j_X1_isAddress y13.1 (v5 + (hI y13.1 4 4 a1))) fun y15 =>
      if y15.2 = (0 : Int32) then
        some (y15.1, (2 : Int32))
      else
        j_X9_trapOf_j49 y15.1 p a1 v5
  else
    some (y11.1, (1 : Int32))

set_option maxHeartbeats 40000000 in
theorem J_X9_trapOf (G : zG) (h : zH) (p : Nat) (a1 : Nat) (V : Int32) (h9 : zH) (hm : j_X9_trapOf h p a1 = some (h9, V)) : zJi G yX9_trapOf cX9_trapOf 3 (some .int) 2 0 0 [zrf p, zrf a1] h V h9 := by
  refine zCo.st [some (zrf p), some (zrf a1), none] rfl rfl (by simp only [zarg_r, zarg_i, zarg_l, zarg_0]; rfl) (fun X o f0 hin hw0 => ?_)
  have f := f0.e
  have hin : (Xt X).name = "trapOf" := hin
  refine (?_ : zQ (EH h) G X 0 0 0 [some (zrf p), some (zrf a1), none] []) h rfl hw0
  clear hw0
  generalize hR9 : ((h9, V) : (zH × Int32)) = R at hm
  have hj100 : ∀ (h : zH) (s0 : Int32) (cl sl : Nat), cl + (0) ≤ 0 → sl + (0) ≤ 0 → j_X9_trapOf_j100 h s0 = some R → zQ (EH h) G X cl sl 100 [none, none, none] [.int s0] := by
    intro h s0 cl sl hc hs hm
    unfold j_X9_trapOf_j100 at hm
    refine zh_reti o f dX9_trapOf_100 rfl (by omega) (by omega) ((so_e hm).trans hR9.symm)
  have hj99 : ∀ (h : zH) (cl sl : Nat), cl + (0) ≤ 0 → sl + (0) ≤ 0 → j_X9_trapOf_j99 h = some R → zQ (EH h) G X cl sl 99 [none, none, none] [] := by
    intro h cl sl hc hs hm
    unfold j_X9_trapOf_j99 at hm
    refine zQ.s (fun h => zs_iconst (v := 0) o dX9_trapOf_99 (by decide)) ?_
    exact hj100 _ _ _ _ (by omega) (by omega) hm
  have hj65 : ∀ (h : zH) (x0 : Nat) (x1 : Nat) (cl sl : Nat), cl + (0) ≤ 0 → sl + (0) ≤ 0 → j_X9_trapOf_j65 h x0 x1 = some R → zQ (EH h) G X cl sl 65 [some (zrf x0), some (zrf x1), none] [] := by
    intro h x0 x1 cl sl hc hs hm
    unfold j_X9_trapOf_j65 at hm
    refine zQ.s (fun h => zs_aload_n (i := 1) o dX9_trapOf_65 rfl rfl) ?_
    obtain ⟨g1, hm⟩ := gd_e hm
    refine zh_getI o g1 fl_X9_100_4 rfl dX9_trapOf_66 ?_
    refine zQ.s (fun h => zs_bipush (v := 20) o dX9_trapOf_69 (by decide)) ?_
    refine zQ.b (fun h => zs_icmp_ne (tgt := 76) o dX9_trapOf_71 (by decide)) (fun c => ?_) (fun c => ?_)
    · have hm := if_e2 hm c
      refine zQ.s (fun h => zs_aload_n (i := 1) o dX9_trapOf_76 rfl rfl) ?_
      obtain ⟨g2, hm⟩ := gd_e hm
      refine zh_getI o g2 fl_X9_100_4 rfl dX9_trapOf_77 ?_
      refine zQ.s (fun h => zs_bipush (v := 21) o dX9_trapOf_80 (by decide)) ?_
      refine zQ.b (fun h => zs_icmp_ne (tgt := 99) o dX9_trapOf_82 (by decide)) (fun c => ?_) (fun c => ?_)
      · have hm := if_e2 hm c
        refine zQ.fg (zl_n (zl_n (zl_n zl_0))) ?_
        exact hj99 _ _ _ (by omega) (by omega) hm
      · have hm := if_e1 hm c
        refine zQ.s (fun h => zs_aload_n (i := 0) o dX9_trapOf_85 rfl rfl) ?_
        obtain ⟨g3, hm⟩ := gd_e hm
        refine zh_getR o g3 fl_X9_22_9 rfl dX9_trapOf_86 ?_
        obtain ⟨g4, hm⟩ := gd_e hm
        refine zh_getI o g4 fl_X9_103_2 rfl dX9_trapOf_89 ?_
        refine zQ.b (fun h => zs_if_ne (tgt := 99) o dX9_trapOf_92 (by decide)) (fun c => ?_) (fun c => ?_)
        · have hm := if_e2 hm c
          refine zQ.fg (zl_n (zl_n (zl_n zl_0))) ?_
          exact hj99 _ _ _ (by omega) (by omega) hm
        · have hm := if_e1 hm c
          refine zQ.s (fun h => zs_iconst (v := 5) o dX9_trapOf_95 (by decide)) ?_
          refine zQ.s (fun h => zs_goto (tgt := 100) o dX9_trapOf_96 (by decide)) ?_
          refine zQ.fg (zl_n (zl_n (zl_n zl_0))) ?_
          exact hj100 _ _ _ _ (by omega) (by omega) hm
    · have hm := if_e1 hm c
      refine zQ.s (fun h => zs_iconst (v := 4) o dX9_trapOf_74 (by decide)) ?_
      refine zh_reti o f dX9_trapOf_75 rfl (by omega) (by omega) ((so_e hm).trans hR9.symm)
  have hj49 : ∀ (h : zH) (x0 : Nat) (x1 : Nat) (x2 : Int32) (cl sl : Nat), cl + (0) ≤ 0 → sl + (0) ≤ 0 → j_X9_trapOf_j49 h x0 x1 x2 = some R → zQ (EH h) G X cl sl 49 [some (zrf x0), some (zrf x1), some (.int x2)] [] := by
    intro h x0 x1 x2 cl sl hc hs hm
    unfold j_X9_trapOf_j49 at hm
    refine zQ.s (fun h => zs_aload_n (i := 1) o dX9_trapOf_49 rfl rfl) ?_
    obtain ⟨g1, hm⟩ := gd_e hm
    obtain ⟨y2, c_y2, hm⟩ := bd_e hm
    refine zh_Vi o g1 ml_X9_94 (J_X4_isIndirect G _ _ _ _  c_y2) dX9_trapOf_50 rfl rfl rfl rfl (by omega) (by omega) ?_
    refine zQ.b (fun h => zs_if_eq (tgt := 65) o dX9_trapOf_53 (by decide)) (fun c => ?_) (fun c => ?_)
    · have hm := if_e1 hm c
      refine zQ.fg (zl_s (zl_s (zl_n zl_0))) ?_
      exact hj65 _ _ _ _ _ (by omega) (by omega) hm
    · have hm := if_e2 hm c
      refine zQ.s (fun h => zs_iload_n (i := 2) o dX9_trapOf_56 rfl rfl) ?_
      obtain ⟨y3, c_y3, hm⟩ := bd_e hm
      refine zh_Ni o ml_X9_97 (J_X1_isPlace G _ _ _ _  c_y3) dX9_trapOf_57 rfl rfl rfl rfl (by omega) (by omega) ?_
      refine zQ.b (fun h => zs_if_ne (tgt := 65) o dX9_trapOf_60 (by decide)) (fun c => ?_) (fun c => ?_)
      · have hm := if_e2 hm c
        refine zQ.fg (zl_s (zl_s (zl_n zl_0))) ?_
        exact hj65 _ _ _ _ _ (by omega) (by omega) hm
      · have hm := if_e1 hm c
        refine zQ.s (fun h => zs_iconst (v := 3) o dX9_trapOf_63 (by decide)) ?_
        refine zh_reti o f dX9_trapOf_64 rfl (by omega) (by omega) ((so_e hm).trans hR9.symm)
  unfold j_X9_trapOf at hm
  refine zQ.s (fun h => zs_aload_n (i := 0) o dX9_trapOf_0 rfl rfl) ?_
  obtain ⟨g1, hm⟩ := gd_e hm
  refine zh_getR o g1 fl_X9_9_9 rfl dX9_trapOf_1 ?_
  refine zQ.s (fun h => zs_aload_n (i := 1) o dX9_trapOf_4 rfl rfl) ?_
  obtain ⟨g2, hm⟩ := gd_e hm
  refine zh_getI o g2 fl_X9_74_4 rfl dX9_trapOf_5 ?_
  obtain ⟨g3, hm⟩ := gd_e hm
  obtain ⟨g4, hm⟩ := gd_e hm
  refine zh_iald o g3 g4 dX9_trapOf_8 ?_
  obtain ⟨v5, e_v5, hm⟩ := lt_e hm
  refine zQ.nmi e_v5 ?_
  refine zQ.s (fun h => zs_istore_n (i := 2) o dX9_trapOf_9 rfl (by decide) (Or.inr (zc2_ref rfl)) (by simp only [List.set_cons_succ, List.set_cons_zero]; rfl)) ?_
  refine zQ.s (fun h => zs_aload_n (i := 1) o dX9_trapOf_10 rfl rfl) ?_
  refine zQ.s (fun h => zs_aload_n (i := 0) o dX9_trapOf_11 rfl rfl) ?_
  obtain ⟨g6, hm⟩ := gd_e hm
  refine zh_getR o g6 fl_X9_9_9 rfl dX9_trapOf_12 ?_
  refine zQ.s (fun h => zs_aload_n (i := 1) o dX9_trapOf_15 rfl rfl) ?_
  obtain ⟨g7, hm⟩ := gd_e hm
  refine zh_getI o g7 fl_X9_77_4 rfl dX9_trapOf_16 ?_
  obtain ⟨g8, hm⟩ := gd_e hm
  obtain ⟨g9, hm⟩ := gd_e hm
  refine zh_iald o g8 g9 dX9_trapOf_19 ?_
  obtain ⟨g10, hm⟩ := gd_e hm
  obtain ⟨y11, c_y11, hm⟩ := bd_e hm
  refine zh_Vi o g10 ml_X9_80 (J_X4_traps G _ _ _ _ _  c_y11) dX9_trapOf_20 rfl rfl rfl rfl (by omega) (by omega) ?_
  refine zQ.b (fun h => zs_if_eq (tgt := 28) o dX9_trapOf_23 (by decide)) (fun c => ?_) (fun c => ?_)
  · have hm := if_e1 hm c
    refine zQ.s (fun h => zs_aload_n (i := 1) o dX9_trapOf_28 rfl rfl) ?_
    obtain ⟨g12, hm⟩ := gd_e hm
    obtain ⟨y13, c_y13, hm⟩ := bd_e hm
    refine zh_Vi o g12 ml_X9_84 (J_X4_isForMemory G _ _ _ _  c_y13) dX9_trapOf_29 rfl rfl rfl rfl (by omega) (by omega) ?_
    refine zQ.b (fun h => zs_if_eq (tgt := 49) o dX9_trapOf_32 (by decide)) (fun c => ?_) (fun c => ?_)
    · have hm := if_e1 hm c
      exact hj49 _ _ _ _ _ _ (by omega) (by omega) hm
    · have hm := if_e2 hm c
      refine zQ.s (fun h => zs_iload_n (i := 2) o dX9_trapOf_35 rfl rfl) ?_
      refine zQ.s (fun h => zs_aload_n (i := 1) o dX9_trapOf_36 rfl rfl) ?_
      obtain ⟨g14, hm⟩ := gd_e hm
      refine zh_getI o g14 fl_X9_88_4 rfl dX9_trapOf_37 ?_
      refine zQ.s (fun h => zs_iadd o dX9_trapOf_40) ?_
      obtain ⟨y15, c_y15, hm⟩ := bd_e hm
      refine zh_Ni o ml_X9_91 (J_X1_isAddress G _ _ _ _  c_y15) dX9_trapOf_41 rfl rfl rfl rfl (by omega) (by omega) ?_
      refine zQ.b (fun h => zs_if_ne (tgt := 49) o dX9_trapOf_44 (by decide)) (fun c => ?_) (fun c => ?_)
      · have hm := if_e2 hm c
        exact hj49 _ _ _ _ _ _ (by omega) (by omega) hm
      · have hm := if_e1 hm c
        refine zQ.s (fun h => zs_iconst (v := 2) o dX9_trapOf_47 (by decide)) ?_
        refine zh_reti o f dX9_trapOf_48 rfl (by omega) (by omega) ((so_e hm).trans hR9.symm)
  · have hm := if_e2 hm c
    refine zQ.s (fun h => zs_iconst (v := 1) o dX9_trapOf_26 (by decide)) ?_
    refine zh_reti o f dX9_trapOf_27 rfl (by omega) (by omega) ((so_e hm).trans hR9.symm)

def j_X9_doneBy_j247 (h : zH) (x4 : Int32) : Option (zH × Int32) :=
  some (h, x4)
def j_X9_doneBy_j176 (h : zH) (s0 : Int32) : Option (zH × Int32) :=
  j_X9_doneBy_j247 h s0
def j_X9_doneBy (h : zH) (p : Nat) (a1 : Nat) : Option (zH × Int32) :=
  gd (kd h p 9) <|
  gd (kd h a1 4) <|
  gd (kd h (hR h 9 1 p) 201) <|
  gd (inb (hI h 4 2 a1) (zN h (hR h 9 1 p))) <|
  lt (hI h 201 (ix (hI h 4 2 a1)) (hR h 9 1 p)) fun v5 =>
  gd (kd h p 9) <|
  gd (kd h a1 4) <|
  gd (kd h (hR h 9 1 p) 201) <|
  gd (inb (hI h 4 3 a1) (zN h (hR h 9 1 p))) <|
  lt (hI h 201 (ix (hI h 4 3 a1)) (hR h 9 1 p)) fun v10 =>
  gd (kd h p 9) <|
  lt ((hI h 9 4 p) + (1 : Int32)) fun v12 =>
  gd (kd h a1 4) <|
  if (hI h 4 0 a1) = (9 : Int32) then
    gd (kd h p 9) <|
    gd (kd h a1 4) <|
    gd (kd h p 9) <|
    gd (kd h a1 4) <|
    gd (kd h (hR h 9 2 p) 201) <|
    gd (inb (v5 + (hI h 4 4 a1)) (zN h (hR h 9 2 p))) <|
    gd (kd h (hR h 9 1 p) 201) <|
    gd (wr h (hR h 9 1 p)) <|
    gd (inb (hI h 4 1 a1) (zN h (hR h 9 1 p))) <|
    lt (pI h 201 (ix (hI h 4 1 a1)) (hR h 9 1 p) (hI h 201 (ix (v5 + (hI h 4 4 a1))) (hR h 9 2 p))) fun S74 =>
    j_X9_doneBy_j247 S74 v12
  else
    gd (kd h a1 4) <|
    bd (j_X4_isStore h a1) fun y15 =>
    if y15.2 = (0 : Int32) then
      gd (kd y15.1 a1 4) <|
      if (hI y15.1 4 0 a1) = (15 : Int32) then
        gd (kd y15.1 p 9) <|
        gd (kd y15.1 a1 4) <|
        gd (kd y15.1 (hR y15.1 9 1 p) 201) <|
        gd (wr y15.1 (hR y15.1 9 1 p)) <|
        gd (inb (hI y15.1 4 1 a1) (zN y15.1 (hR y15.1 9 1 p))) <|
        lt (pI y15.1 201 (ix (hI y15.1 4 1 a1)) (hR y15.1 9 1 p) v12) fun S50 =>
        gd (kd S50 a1 4) <|
        lt (hI S50 4 4 a1) fun v52 =>
        j_X9_doneBy_j247 S50 v52
      else
        gd (kd y15.1 a1 4) <|
        bd (j_X4_hasResult y15.1 a1) fun y18 =>
        if y18.2 = (0 : Int32) then
          gd (kd y18.1 a1 4) <|
          bd (j_X4_isCondition y18.1 a1) fun y20 =>
          if y20.2 = (0 : Int32) then
            gd (kd y20.1 a1 4) <|
            if (hI y20.1 4 0 a1) = (14 : Int32) then
              gd (kd y20.1 a1 4) <|
              lt (hI y20.1 4 4 a1) fun v33 =>
              j_X9_doneBy_j247 y20.1 v33
            else
              gd (kd y20.1 a1 4) <|
              bd (j_X4_isIndirect y20.1 a1) fun y23 =>
              if y23.2 = (0 : Int32) then
                gd (kd y23.1 a1 4) <|
                if (hI y23.1 4 0 a1) = (21 : Int32) then
                  gd (kd y23.1 p 9) <|
                  gd (kd y23.1 (hR y23.1 9 3 p) 2) <|
                  bd (j_X2_goBack y23.1 (hR y23.1 9 3 p)) fun y31 =>
                  j_X9_doneBy_j247 y31.1 y31.2
                else
                  gd (kd y23.1 a1 4) <|
                  if (hI y23.1 4 0 a1) = (18 : Int32) then
                    gd (kd y23.1 p 9) <|
                    gd (wr y23.1 p) <|
                    lt (pI y23.1 9 5 p (1 : Int32)) fun S28 =>
                    j_X9_doneBy_j247 S28 v12
                  else
                    j_X9_doneBy_j247 y23.1 v12
              else
                j_X9_doneBy_j247 y23.1 v5
          else
            gd (kd y20.1 a1 4) <|
            bd (j_X4_isFulfilled y20.1 a1 v5 v10) fun y35 =>
            if y35.2 = (0 : Int32) then
              j_X9_doneBy_j176 y35.1 v12
            else
              gd (kd y35.1 a1 4) <|
              j_X9_doneBy_j176 y35.1 (hI y35.1 4 4 a1)
        else
          gd (kd y18.1 p 9) <|
          gd (kd y18.1 a1 4) <|
          gd (kd y18.1 a1 4) <|
          bd (j_X4_reckon y18.1 a1 v5 v10) fun y40 =>
          gd (kd y40.1 (hR y18.1 9 1 p) 201) <|
          gd (wr y40.1 (hR y18.1 9 1 p)) <|
          gd (inb (hI y18.1 4 1 a1) (zN y40.1 (hR y18.1 9 1 p))) <|
          lt (pI y40.1 201 (ix (hI y18.1 4 1 a1)) (hR y18.1 9 1 p) y40.2) fun S44 =>
          j_X9_doneBy_j247 S44 v12
    else
      gd (kd y15.1 p 9) <|
      gd (kd y15.1 a1 4) <|
      gd (kd y15.1 p 9) <|
      gd (kd y15.1 a1 4) <|
      gd (kd y15.1 (hR y15.1 9 2 p) 201) <|
      gd (inb (v5 + (hI y15.1 4 4 a1)) (zN y15.1 (hR y15.1 9 2 p))) <|
      gd (kd y15.1 a1 4) <|
      bd (j_X4_stored y15.1 a1 (hI y15.1 201 (ix (v5 + (hI y15.1 4 4 a1))) (hR y15.1 9 2 p)) v10) fun y60 =>
      gd (kd y60.1 (hR y15.1 9 2 p) 201) <|
      gd (wr y60.1 (hR y15.1 9 2 p)) <|
      gd (inb (v5 + (hI y15.1 4 4 a1)) (zN y60.1 (hR y15.1 9 2 p))) <|
      lt (pI y60.1 201 (ix (v5 + (hI y15.1 4 4 a1))) (hR y15.1 9 2 p) y60.2) fun S64 =>
      j_X9_doneBy_j247 S64 v12

set_option maxHeartbeats 40000000 in
theorem J_X9_doneBy (G : zG) (h : zH) (p : Nat) (a1 : Nat) (V : Int32) (h9 : zH) (hm : j_X9_doneBy h p a1 = some (h9, V)) : zJi G yX9_doneBy cX9_doneBy 5 (some .int) 2 0 0 [zrf p, zrf a1] h V h9 := by
  refine zCo.st [some (zrf p), some (zrf a1), none, none, none] rfl rfl (by simp only [zarg_r, zarg_i, zarg_l, zarg_0]; rfl) (fun X o f0 hin hw0 => ?_)
  have f := f0.e
  have hin : (Xt X).name = "doneBy" := hin
  refine (?_ : zQ (EH h) G X 0 0 0 [some (zrf p), some (zrf a1), none, none, none] []) h rfl hw0
  clear hw0
  generalize hR9 : ((h9, V) : (zH × Int32)) = R at hm
  have hj247 : ∀ (h : zH) (x4 : Int32) (cl sl : Nat), cl + (0) ≤ 0 → sl + (0) ≤ 0 → j_X9_doneBy_j247 h x4 = some R → zQ (EH h) G X cl sl 247 [none, none, none, none, some (.int x4)] [] := by
    intro h x4 cl sl hc hs hm
    unfold j_X9_doneBy_j247 at hm
    refine zQ.s (fun h => zs_iload (i := 4) o dX9_doneBy_247 rfl) ?_
    refine zh_reti o f dX9_doneBy_249 rfl (by omega) (by omega) ((so_e hm).trans hR9.symm)
  have hj176 : ∀ (h : zH) (s0 : Int32) (cl sl : Nat), cl + (0) ≤ 0 → sl + (0) ≤ 0 → j_X9_doneBy_j176 h s0 = some R → zQ (EH h) G X cl sl 176 [none, none, none, none, none] [.int s0] := by
    intro h s0 cl sl hc hs hm
    unfold j_X9_doneBy_j176 at hm
    refine zQ.s (fun h => zs_istore (i := 4) o dX9_doneBy_176 (by decide) (Or.inr rfl) (by simp only [List.set_cons_succ, List.set_cons_zero]; rfl)) ?_
    refine zQ.s (fun h => zs_goto (tgt := 247) o dX9_doneBy_178 (by decide)) ?_
    exact hj247 _ _ _ _ (by omega) (by omega) hm
  unfold j_X9_doneBy at hm
  refine zQ.s (fun h => zs_aload_n (i := 0) o dX9_doneBy_0 rfl rfl) ?_
  obtain ⟨g1, hm⟩ := gd_e hm
  refine zh_getR o g1 fl_X9_9_9 rfl dX9_doneBy_1 ?_
  refine zQ.s (fun h => zs_aload_n (i := 1) o dX9_doneBy_4 rfl rfl) ?_
  obtain ⟨g2, hm⟩ := gd_e hm
  refine zh_getI o g2 fl_X9_74_4 rfl dX9_doneBy_5 ?_
  obtain ⟨g3, hm⟩ := gd_e hm
  obtain ⟨g4, hm⟩ := gd_e hm
  refine zh_iald o g3 g4 dX9_doneBy_8 ?_
  obtain ⟨v5, e_v5, hm⟩ := lt_e hm
  refine zQ.nmi e_v5 ?_
  refine zQ.s (fun h => zs_istore_n (i := 2) o dX9_doneBy_9 rfl (by decide) (Or.inr (zc2_ref rfl)) (by simp only [List.set_cons_succ, List.set_cons_zero]; rfl)) ?_
  refine zQ.s (fun h => zs_aload_n (i := 0) o dX9_doneBy_10 rfl rfl) ?_
  obtain ⟨g6, hm⟩ := gd_e hm
  refine zh_getR o g6 fl_X9_9_9 rfl dX9_doneBy_11 ?_
  refine zQ.s (fun h => zs_aload_n (i := 1) o dX9_doneBy_14 rfl rfl) ?_
  obtain ⟨g7, hm⟩ := gd_e hm
  refine zh_getI o g7 fl_X9_77_4 rfl dX9_doneBy_15 ?_
  obtain ⟨g8, hm⟩ := gd_e hm
  obtain ⟨g9, hm⟩ := gd_e hm
  refine zh_iald o g8 g9 dX9_doneBy_18 ?_
  obtain ⟨v10, e_v10, hm⟩ := lt_e hm
  refine zQ.nmi e_v10 ?_
  refine zQ.s (fun h => zs_istore_n (i := 3) o dX9_doneBy_19 rfl (by decide) (Or.inr rfl) (by simp only [List.set_cons_succ, List.set_cons_zero]; rfl)) ?_
  refine zQ.s (fun h => zs_aload_n (i := 0) o dX9_doneBy_20 rfl rfl) ?_
  obtain ⟨g11, hm⟩ := gd_e hm
  refine zh_getI o g11 fl_X9_32_9 rfl dX9_doneBy_21 ?_
  refine zQ.s (fun h => zs_iconst (v := 1) o dX9_doneBy_24 (by decide)) ?_
  refine zQ.s (fun h => zs_iadd o dX9_doneBy_25) ?_
  obtain ⟨v12, e_v12, hm⟩ := lt_e hm
  refine zQ.nmi e_v12 ?_
  refine zQ.s (fun h => zs_istore (i := 4) o dX9_doneBy_26 (by decide) (Or.inr rfl) (by simp only [List.set_cons_succ, List.set_cons_zero]; rfl)) ?_
  refine zQ.s (fun h => zs_aload_n (i := 1) o dX9_doneBy_28 rfl rfl) ?_
  obtain ⟨g13, hm⟩ := gd_e hm
  refine zh_getI o g13 fl_X9_100_4 rfl dX9_doneBy_29 ?_
  refine zQ.s (fun h => zs_bipush (v := 9) o dX9_doneBy_32 (by decide)) ?_
  refine zQ.b (fun h => zs_icmp_ne (tgt := 60) o dX9_doneBy_34 (by decide)) (fun c => ?_) (fun c => ?_)
  · have hm := if_e2 hm c
    refine zQ.s (fun h => zs_aload_n (i := 1) o dX9_doneBy_60 rfl rfl) ?_
    obtain ⟨g14, hm⟩ := gd_e hm
    obtain ⟨y15, c_y15, hm⟩ := bd_e hm
    refine zh_Vi o g14 ml_X9_109 (J_X4_isStore G _ _ _ _  c_y15) dX9_doneBy_61 rfl rfl rfl rfl (by omega) (by omega) ?_
    refine zQ.b (fun h => zs_if_eq (tgt := 97) o dX9_doneBy_64 (by decide)) (fun c => ?_) (fun c => ?_)
    · have hm := if_e1 hm c
      refine zQ.s (fun h => zs_aload_n (i := 1) o dX9_doneBy_97 rfl rfl) ?_
      obtain ⟨g16, hm⟩ := gd_e hm
      refine zh_getI o g16 fl_X9_100_4 rfl dX9_doneBy_98 ?_
      refine zQ.s (fun h => zs_bipush (v := 15) o dX9_doneBy_101 (by decide)) ?_
      refine zQ.b (fun h => zs_icmp_ne (tgt := 126) o dX9_doneBy_103 (by decide)) (fun c => ?_) (fun c => ?_)
      · have hm := if_e2 hm c
        refine zQ.s (fun h => zs_aload_n (i := 1) o dX9_doneBy_126 rfl rfl) ?_
        obtain ⟨g17, hm⟩ := gd_e hm
        obtain ⟨y18, c_y18, hm⟩ := bd_e hm
        refine zh_Vi o g17 ml_X9_116 (J_X4_hasResult G _ _ _ _  c_y18) dX9_doneBy_127 rfl rfl rfl rfl (by omega) (by omega) ?_
        refine zQ.b (fun h => zs_if_eq (tgt := 151) o dX9_doneBy_130 (by decide)) (fun c => ?_) (fun c => ?_)
        · have hm := if_e1 hm c
          refine zQ.s (fun h => zs_aload_n (i := 1) o dX9_doneBy_151 rfl rfl) ?_
          obtain ⟨g19, hm⟩ := gd_e hm
          obtain ⟨y20, c_y20, hm⟩ := bd_e hm
          refine zh_Vi o g19 ml_X9_122 (J_X4_isCondition G _ _ _ _  c_y20) dX9_doneBy_152 rfl rfl rfl rfl (by omega) (by omega) ?_
          refine zQ.b (fun h => zs_if_eq (tgt := 181) o dX9_doneBy_155 (by decide)) (fun c => ?_) (fun c => ?_)
          · have hm := if_e1 hm c
            refine zQ.s (fun h => zs_aload_n (i := 1) o dX9_doneBy_181 rfl rfl) ?_
            obtain ⟨g21, hm⟩ := gd_e hm
            refine zh_getI o g21 fl_X9_100_4 rfl dX9_doneBy_182 ?_
            refine zQ.s (fun h => zs_bipush (v := 14) o dX9_doneBy_185 (by decide)) ?_
            refine zQ.b (fun h => zs_icmp_ne (tgt := 199) o dX9_doneBy_187 (by decide)) (fun c => ?_) (fun c => ?_)
            · have hm := if_e2 hm c
              refine zQ.s (fun h => zs_aload_n (i := 1) o dX9_doneBy_199 rfl rfl) ?_
              obtain ⟨g22, hm⟩ := gd_e hm
              obtain ⟨y23, c_y23, hm⟩ := bd_e hm
              refine zh_Vi o g22 ml_X9_94 (J_X4_isIndirect G _ _ _ _  c_y23) dX9_doneBy_200 rfl rfl rfl rfl (by omega) (by omega) ?_
              refine zQ.b (fun h => zs_if_eq (tgt := 212) o dX9_doneBy_203 (by decide)) (fun c => ?_) (fun c => ?_)
              · have hm := if_e1 hm c
                refine zQ.s (fun h => zs_aload_n (i := 1) o dX9_doneBy_212 rfl rfl) ?_
                obtain ⟨g24, hm⟩ := gd_e hm
                refine zh_getI o g24 fl_X9_100_4 rfl dX9_doneBy_213 ?_
                refine zQ.s (fun h => zs_bipush (v := 21) o dX9_doneBy_216 (by decide)) ?_
                refine zQ.b (fun h => zs_icmp_ne (tgt := 233) o dX9_doneBy_218 (by decide)) (fun c => ?_) (fun c => ?_)
                · have hm := if_e2 hm c
                  refine zQ.s (fun h => zs_aload_n (i := 1) o dX9_doneBy_233 rfl rfl) ?_
                  obtain ⟨g25, hm⟩ := gd_e hm
                  refine zh_getI o g25 fl_X9_100_4 rfl dX9_doneBy_234 ?_
                  refine zQ.s (fun h => zs_bipush (v := 18) o dX9_doneBy_237 (by decide)) ?_
                  refine zQ.b (fun h => zs_icmp_ne (tgt := 247) o dX9_doneBy_239 (by decide)) (fun c => ?_) (fun c => ?_)
                  · have hm := if_e2 hm c
                    refine zQ.fg (zl_n (zl_n (zl_n (zl_n (zl_s zl_0))))) ?_
                    exact hj247 _ _ _ _ (by omega) (by omega) hm
                  · have hm := if_e1 hm c
                    refine zQ.s (fun h => zs_aload_n (i := 0) o dX9_doneBy_242 rfl rfl) ?_
                    refine zQ.s (fun h => zs_iconst (v := 1) o dX9_doneBy_243 (by decide)) ?_
                    obtain ⟨g26, hm⟩ := gd_e hm
                    obtain ⟨g27, hm⟩ := gd_e hm
                    obtain ⟨S28, e_S28, hm⟩ := lt_e hm
                    refine zh_putI o g26 g27 fl_X9_45_9 rfl rfl ⟨rfl, rfl⟩ dX9_doneBy_244 e_S28 ?_
                    refine zQ.fg (zl_n (zl_n (zl_n (zl_n (zl_s zl_0))))) ?_
                    exact hj247 _ _ _ _ (by omega) (by omega) hm
                · have hm := if_e1 hm c
                  refine zQ.s (fun h => zs_aload_n (i := 0) o dX9_doneBy_221 rfl rfl) ?_
                  obtain ⟨g29, hm⟩ := gd_e hm
                  refine zh_getR o g29 fl_X9_22_9 rfl dX9_doneBy_222 ?_
                  obtain ⟨g30, hm⟩ := gd_e hm
                  obtain ⟨y31, c_y31, hm⟩ := bd_e hm
                  refine zh_Vi o g30 ml_X9_129 (J_X2_goBack G _ _ _ _  c_y31) dX9_doneBy_225 rfl rfl rfl rfl (by omega) (by omega) ?_
                  refine zQ.s (fun h => zs_istore (i := 4) o dX9_doneBy_228 (by decide) (Or.inr rfl) (by simp only [List.set_cons_succ, List.set_cons_zero]; rfl)) ?_
                  refine zQ.s (fun h => zs_goto (tgt := 247) o dX9_doneBy_230 (by decide)) ?_
                  refine zQ.fg (zl_n (zl_n (zl_n (zl_n (zl_s zl_0))))) ?_
                  exact hj247 _ _ _ _ (by omega) (by omega) hm
              · have hm := if_e2 hm c
                refine zQ.s (fun h => zs_iload_n (i := 2) o dX9_doneBy_206 rfl rfl) ?_
                refine zQ.s (fun h => zs_istore (i := 4) o dX9_doneBy_207 (by decide) (Or.inr rfl) (by simp only [List.set_cons_succ, List.set_cons_zero]; rfl)) ?_
                refine zQ.s (fun h => zs_goto (tgt := 247) o dX9_doneBy_209 (by decide)) ?_
                refine zQ.fg (zl_n (zl_n (zl_n (zl_n (zl_s zl_0))))) ?_
                exact hj247 _ _ _ _ (by omega) (by omega) hm
            · have hm := if_e1 hm c
              refine zQ.s (fun h => zs_aload_n (i := 1) o dX9_doneBy_190 rfl rfl) ?_
              obtain ⟨g32, hm⟩ := gd_e hm
              refine zh_getI o g32 fl_X9_88_4 rfl dX9_doneBy_191 ?_
              obtain ⟨v33, e_v33, hm⟩ := lt_e hm
              refine zQ.nmi e_v33 ?_
              refine zQ.s (fun h => zs_istore (i := 4) o dX9_doneBy_194 (by decide) (Or.inr rfl) (by simp only [List.set_cons_succ, List.set_cons_zero]; rfl)) ?_
              refine zQ.s (fun h => zs_goto (tgt := 247) o dX9_doneBy_196 (by decide)) ?_
              refine zQ.fg (zl_n (zl_n (zl_n (zl_n (zl_s zl_0))))) ?_
              exact hj247 _ _ _ _ (by omega) (by omega) hm
          · have hm := if_e2 hm c
            refine zQ.s (fun h => zs_aload_n (i := 1) o dX9_doneBy_158 rfl rfl) ?_
            refine zQ.s (fun h => zs_iload_n (i := 2) o dX9_doneBy_159 rfl rfl) ?_
            refine zQ.s (fun h => zs_iload_n (i := 3) o dX9_doneBy_160 rfl rfl) ?_
            obtain ⟨g34, hm⟩ := gd_e hm
            obtain ⟨y35, c_y35, hm⟩ := bd_e hm
            refine zh_Vi o g34 ml_X9_125 (J_X4_isFulfilled G _ _ _ _ _ _  c_y35) dX9_doneBy_161 rfl rfl rfl rfl (by omega) (by omega) ?_
            refine zQ.b (fun h => zs_if_eq (tgt := 174) o dX9_doneBy_164 (by decide)) (fun c => ?_) (fun c => ?_)
            · have hm := if_e1 hm c
              refine zQ.s (fun h => zs_iload (i := 4) o dX9_doneBy_174 rfl) ?_
              refine zQ.fg (zl_n (zl_n (zl_n (zl_n (zl_n zl_0))))) ?_
              exact hj176 _ _ _ _ (by omega) (by omega) hm
            · have hm := if_e2 hm c
              refine zQ.s (fun h => zs_aload_n (i := 1) o dX9_doneBy_167 rfl rfl) ?_
              obtain ⟨g36, hm⟩ := gd_e hm
              refine zh_getI o g36 fl_X9_88_4 rfl dX9_doneBy_168 ?_
              refine zQ.s (fun h => zs_goto (tgt := 176) o dX9_doneBy_171 (by decide)) ?_
              refine zQ.fg (zl_n (zl_n (zl_n (zl_n (zl_n zl_0))))) ?_
              exact hj176 _ _ _ _ (by omega) (by omega) hm
        · have hm := if_e2 hm c
          refine zQ.s (fun h => zs_aload_n (i := 0) o dX9_doneBy_133 rfl rfl) ?_
          obtain ⟨g37, hm⟩ := gd_e hm
          refine zh_getR o g37 fl_X9_9_9 rfl dX9_doneBy_134 ?_
          refine zQ.s (fun h => zs_aload_n (i := 1) o dX9_doneBy_137 rfl rfl) ?_
          obtain ⟨g38, hm⟩ := gd_e hm
          refine zh_getI o g38 fl_X9_106_4 rfl dX9_doneBy_138 ?_
          refine zQ.s (fun h => zs_aload_n (i := 1) o dX9_doneBy_141 rfl rfl) ?_
          refine zQ.s (fun h => zs_iload_n (i := 2) o dX9_doneBy_142 rfl rfl) ?_
          refine zQ.s (fun h => zs_iload_n (i := 3) o dX9_doneBy_143 rfl rfl) ?_
          obtain ⟨g39, hm⟩ := gd_e hm
          obtain ⟨y40, c_y40, hm⟩ := bd_e hm
          refine zh_Vi o g39 ml_X9_119 (J_X4_reckon G _ _ _ _ _ _  c_y40) dX9_doneBy_144 rfl rfl rfl rfl (by omega) (by omega) ?_
          obtain ⟨g41, hm⟩ := gd_e hm
          obtain ⟨g42, hm⟩ := gd_e hm
          obtain ⟨g43, hm⟩ := gd_e hm
          obtain ⟨S44, e_S44, hm⟩ := lt_e hm
          refine zh_iast o g41 g42 g43 dX9_doneBy_147 e_S44 ?_
          refine zQ.s (fun h => zs_goto (tgt := 247) o dX9_doneBy_148 (by decide)) ?_
          refine zQ.fg (zl_n (zl_n (zl_n (zl_n (zl_s zl_0))))) ?_
          exact hj247 _ _ _ _ (by omega) (by omega) hm
      · have hm := if_e1 hm c
        refine zQ.s (fun h => zs_aload_n (i := 0) o dX9_doneBy_106 rfl rfl) ?_
        obtain ⟨g45, hm⟩ := gd_e hm
        refine zh_getR o g45 fl_X9_9_9 rfl dX9_doneBy_107 ?_
        refine zQ.s (fun h => zs_aload_n (i := 1) o dX9_doneBy_110 rfl rfl) ?_
        obtain ⟨g46, hm⟩ := gd_e hm
        refine zh_getI o g46 fl_X9_106_4 rfl dX9_doneBy_111 ?_
        refine zQ.s (fun h => zs_iload (i := 4) o dX9_doneBy_114 rfl) ?_
        obtain ⟨g47, hm⟩ := gd_e hm
        obtain ⟨g48, hm⟩ := gd_e hm
        obtain ⟨g49, hm⟩ := gd_e hm
        obtain ⟨S50, e_S50, hm⟩ := lt_e hm
        refine zh_iast o g47 g48 g49 dX9_doneBy_116 e_S50 ?_
        refine zQ.s (fun h => zs_aload_n (i := 1) o dX9_doneBy_117 rfl rfl) ?_
        obtain ⟨g51, hm⟩ := gd_e hm
        refine zh_getI o g51 fl_X9_88_4 rfl dX9_doneBy_118 ?_
        obtain ⟨v52, e_v52, hm⟩ := lt_e hm
        refine zQ.nmi e_v52 ?_
        refine zQ.s (fun h => zs_istore (i := 4) o dX9_doneBy_121 (by decide) (Or.inr rfl) (by simp only [List.set_cons_succ, List.set_cons_zero]; rfl)) ?_
        refine zQ.s (fun h => zs_goto (tgt := 247) o dX9_doneBy_123 (by decide)) ?_
        refine zQ.fg (zl_n (zl_n (zl_n (zl_n (zl_s zl_0))))) ?_
        exact hj247 _ _ _ _ (by omega) (by omega) hm
    · have hm := if_e2 hm c
      refine zQ.s (fun h => zs_aload_n (i := 0) o dX9_doneBy_67 rfl rfl) ?_
      obtain ⟨g53, hm⟩ := gd_e hm
      refine zh_getR o g53 fl_X9_15_9 rfl dX9_doneBy_68 ?_
      refine zQ.s (fun h => zs_iload_n (i := 2) o dX9_doneBy_71 rfl rfl) ?_
      refine zQ.s (fun h => zs_aload_n (i := 1) o dX9_doneBy_72 rfl rfl) ?_
      obtain ⟨g54, hm⟩ := gd_e hm
      refine zh_getI o g54 fl_X9_88_4 rfl dX9_doneBy_73 ?_
      refine zQ.s (fun h => zs_iadd o dX9_doneBy_76) ?_
      refine zQ.s (fun h => zs_aload_n (i := 1) o dX9_doneBy_77 rfl rfl) ?_
      refine zQ.s (fun h => zs_aload_n (i := 0) o dX9_doneBy_78 rfl rfl) ?_
      obtain ⟨g55, hm⟩ := gd_e hm
      refine zh_getR o g55 fl_X9_15_9 rfl dX9_doneBy_79 ?_
      refine zQ.s (fun h => zs_iload_n (i := 2) o dX9_doneBy_82 rfl rfl) ?_
      refine zQ.s (fun h => zs_aload_n (i := 1) o dX9_doneBy_83 rfl rfl) ?_
      obtain ⟨g56, hm⟩ := gd_e hm
      refine zh_getI o g56 fl_X9_88_4 rfl dX9_doneBy_84 ?_
      refine zQ.s (fun h => zs_iadd o dX9_doneBy_87) ?_
      obtain ⟨g57, hm⟩ := gd_e hm
      obtain ⟨g58, hm⟩ := gd_e hm
      refine zh_iald o g57 g58 dX9_doneBy_88 ?_
      refine zQ.s (fun h => zs_iload_n (i := 3) o dX9_doneBy_89 rfl rfl) ?_
      obtain ⟨g59, hm⟩ := gd_e hm
      obtain ⟨y60, c_y60, hm⟩ := bd_e hm
      refine zh_Vi o g59 ml_X9_112 (J_X4_stored G _ _ _ _ _ _  c_y60) dX9_doneBy_90 rfl rfl rfl rfl (by omega) (by omega) ?_
      obtain ⟨g61, hm⟩ := gd_e hm
      obtain ⟨g62, hm⟩ := gd_e hm
      obtain ⟨g63, hm⟩ := gd_e hm
      obtain ⟨S64, e_S64, hm⟩ := lt_e hm
      refine zh_iast o g61 g62 g63 dX9_doneBy_93 e_S64 ?_
      refine zQ.s (fun h => zs_goto (tgt := 247) o dX9_doneBy_94 (by decide)) ?_
      refine zQ.fg (zl_n (zl_n (zl_n (zl_n (zl_s zl_0))))) ?_
      exact hj247 _ _ _ _ (by omega) (by omega) hm
  · have hm := if_e1 hm c
    refine zQ.s (fun h => zs_aload_n (i := 0) o dX9_doneBy_37 rfl rfl) ?_
    obtain ⟨g65, hm⟩ := gd_e hm
    refine zh_getR o g65 fl_X9_9_9 rfl dX9_doneBy_38 ?_
    refine zQ.s (fun h => zs_aload_n (i := 1) o dX9_doneBy_41 rfl rfl) ?_
    obtain ⟨g66, hm⟩ := gd_e hm
    refine zh_getI o g66 fl_X9_106_4 rfl dX9_doneBy_42 ?_
    refine zQ.s (fun h => zs_aload_n (i := 0) o dX9_doneBy_45 rfl rfl) ?_
    obtain ⟨g67, hm⟩ := gd_e hm
    refine zh_getR o g67 fl_X9_15_9 rfl dX9_doneBy_46 ?_
    refine zQ.s (fun h => zs_iload_n (i := 2) o dX9_doneBy_49 rfl rfl) ?_
    refine zQ.s (fun h => zs_aload_n (i := 1) o dX9_doneBy_50 rfl rfl) ?_
    obtain ⟨g68, hm⟩ := gd_e hm
    refine zh_getI o g68 fl_X9_88_4 rfl dX9_doneBy_51 ?_
    refine zQ.s (fun h => zs_iadd o dX9_doneBy_54) ?_
    obtain ⟨g69, hm⟩ := gd_e hm
    obtain ⟨g70, hm⟩ := gd_e hm
    refine zh_iald o g69 g70 dX9_doneBy_55 ?_
    obtain ⟨g71, hm⟩ := gd_e hm
    obtain ⟨g72, hm⟩ := gd_e hm
    obtain ⟨g73, hm⟩ := gd_e hm
    obtain ⟨S74, e_S74, hm⟩ := lt_e hm
    refine zh_iast o g71 g72 g73 dX9_doneBy_56 e_S74 ?_
    refine zQ.s (fun h => zs_goto (tgt := 247) o dX9_doneBy_57 (by decide)) ?_
    refine zQ.fg (zl_n (zl_n (zl_n (zl_n (zl_s zl_0))))) ?_
    exact hj247 _ _ _ _ (by omega) (by omega) hm

def j_X9_step_j29 (h : zH) : Option (zH × Int32) :=
  some (h, (-1 : Int32))
def j_X9_step (h : zH) (p : Nat) : Option (zH × Int32) :=
  gd (kd h p 9) <|
  gd (kd h p 9) <|
  gd (kd h (hR h 9 0 p) 10) <|
  bd (j_J2_size h (hR h 9 0 p)) fun y4 =>
  bd (j_X1_isBetween y4.1 (hI h 9 4 p) (0 : Int32) (y4.2 - (1 : Int32))) fun y5 =>
  if y5.2 = (0 : Int32) then
    j_X9_step_j29 y5.1
  else
    gd (kd y5.1 p 9) <|
    if (hI y5.1 9 5 p) = (0 : Int32) then
      gd (kd y5.1 p 9) <|
      gd (kd y5.1 p 9) <|
      gd (kd y5.1 (hR y5.1 9 0 p) 10) <|
      bd (j_J2_get y5.1 (hR y5.1 9 0 p) (hI y5.1 9 4 p)) fun y10 =>
      gd (kd y10.1 y10.2 4) <|
      gd (kd y10.1 p 9) <|
      bd (j_X9_trapOf y10.1 p y10.2) fun y13 =>
      if y13.2 = (0 : Int32) then
        gd (kd y13.1 p 9) <|
        bd (j_X9_doneBy y13.1 p y10.2) fun y15 =>
        gd (kd y15.1 p 9) <|
        gd (wr y15.1 p) <|
        lt (pI y15.1 9 4 p y15.2) fun S18 =>
        some (S18, (0 : Int32))
      else
        gd (kd y13.1 p 9) <|
        bd (j_X9_trap y13.1 p) fun y20 =>
        some (y20, y13.2)
    else
      j_X9_step_j29 y5.1

set_option maxHeartbeats 40000000 in
theorem J_X9_step (G : zG) (h : zH) (p : Nat) (V : Int32) (h9 : zH) (hm : j_X9_step h p = some (h9, V)) : zJi G yX9_step cX9_step 3 (some .int) 3 0 0 [zrf p] h V h9 := by
  refine zCo.st [some (zrf p), none, none] rfl rfl (by simp only [zarg_r, zarg_i, zarg_l, zarg_0]; rfl) (fun X o f0 hin hw0 => ?_)
  have f := f0.e
  have hin : (Xt X).name = "step" := hin
  refine (?_ : zQ (EH h) G X 0 0 0 [some (zrf p), none, none] []) h rfl hw0
  clear hw0
  generalize hR9 : ((h9, V) : (zH × Int32)) = R at hm
  have hj29 : ∀ (h : zH) (cl sl : Nat), cl + (0) ≤ 0 → sl + (0) ≤ 0 → j_X9_step_j29 h = some R → zQ (EH h) G X cl sl 29 [none, none, none] [] := by
    intro h cl sl hc hs hm
    unfold j_X9_step_j29 at hm
    refine zQ.s (fun h => zs_iconst (v := -1) o dX9_step_29 (by decide)) ?_
    refine zh_reti o f dX9_step_30 rfl (by omega) (by omega) ((so_e hm).trans hR9.symm)
  unfold j_X9_step at hm
  refine zQ.s (fun h => zs_aload_n (i := 0) o dX9_step_0 rfl rfl) ?_
  obtain ⟨g1, hm⟩ := gd_e hm
  refine zh_getI o g1 fl_X9_32_9 rfl dX9_step_1 ?_
  refine zQ.s (fun h => zs_iconst (v := 0) o dX9_step_4 (by decide)) ?_
  refine zQ.s (fun h => zs_aload_n (i := 0) o dX9_step_5 rfl rfl) ?_
  obtain ⟨g2, hm⟩ := gd_e hm
  refine zh_getR o g2 fl_X9_18_9 rfl dX9_step_6 ?_
  obtain ⟨g3, hm⟩ := gd_e hm
  obtain ⟨y4, c_y4, hm⟩ := bd_e hm
  refine zh_Fi o g3 ml_X9_49_10 (J_J2_size G _ _ _ _  c_y4) dX9_step_9 rfl rfl rfl rfl (by omega) (by omega) ?_
  refine zQ.s (fun h => zs_iconst (v := 1) o dX9_step_14 (by decide)) ?_
  refine zQ.s (fun h => zs_isub o dX9_step_15) ?_
  obtain ⟨y5, c_y5, hm⟩ := bd_e hm
  refine zh_Ni o ml_X9_55 (J_X1_isBetween G _ _ _ _ _ _  c_y5) dX9_step_16 rfl rfl rfl rfl (by omega) (by omega) ?_
  refine zQ.b (fun h => zs_if_eq (tgt := 29) o dX9_step_19 (by decide)) (fun c => ?_) (fun c => ?_)
  · have hm := if_e1 hm c
    refine zQ.fg (zl_n (zl_n (zl_n zl_0))) ?_
    exact hj29 _ _ _ (by omega) (by omega) hm
  · have hm := if_e2 hm c
    refine zQ.s (fun h => zs_aload_n (i := 0) o dX9_step_22 rfl rfl) ?_
    obtain ⟨g6, hm⟩ := gd_e hm
    refine zh_getI o g6 fl_X9_45_9 rfl dX9_step_23 ?_
    refine zQ.b (fun h => zs_if_eq (tgt := 31) o dX9_step_26 (by decide)) (fun c => ?_) (fun c => ?_)
    · have hm := if_e1 hm c
      refine zQ.s (fun h => zs_aload_n (i := 0) o dX9_step_31 rfl rfl) ?_
      obtain ⟨g7, hm⟩ := gd_e hm
      refine zh_getR o g7 fl_X9_18_9 rfl dX9_step_32 ?_
      refine zQ.s (fun h => zs_aload_n (i := 0) o dX9_step_35 rfl rfl) ?_
      obtain ⟨g8, hm⟩ := gd_e hm
      refine zh_getI o g8 fl_X9_32_9 rfl dX9_step_36 ?_
      obtain ⟨g9, hm⟩ := gd_e hm
      obtain ⟨y10, c_y10, hm⟩ := bd_e hm
      refine zh_Fr o g9 ml_X9_59_10 (J_J2_get G _ _ _ _ _  c_y10) dX9_step_39 rfl rfl rfl rfl (by omega) (by omega) ?_
      obtain ⟨g11, hm⟩ := gd_e hm
      refine zh_cast (c := 4) o q1356 (by decide) (by decide) g11 dX9_step_44 ?_
      refine zQ.s (fun h => zs_astore_n (i := 1) o dX9_step_47 rfl (by decide) (Or.inr (zc2_ref rfl)) (by simp only [List.set_cons_succ, List.set_cons_zero]; rfl)) ?_
      refine zQ.s (fun h => zs_aload_n (i := 0) o dX9_step_48 rfl rfl) ?_
      refine zQ.s (fun h => zs_aload_n (i := 1) o dX9_step_49 rfl rfl) ?_
      obtain ⟨g12, hm⟩ := gd_e hm
      obtain ⟨y13, c_y13, hm⟩ := bd_e hm
      refine zh_Vi o g12 ml_X9_65 (J_X9_trapOf G _ _ _ _ _  c_y13) dX9_step_50 rfl rfl rfl rfl (by omega) (by omega) ?_
      refine zQ.s (fun h => zs_istore_n (i := 2) o dX9_step_53 rfl (by decide) (Or.inr (zc2_ref rfl)) (by simp only [List.set_cons_succ, List.set_cons_zero]; rfl)) ?_
      refine zQ.s (fun h => zs_iload_n (i := 2) o dX9_step_54 rfl rfl) ?_
      refine zQ.b (fun h => zs_if_eq (tgt := 64) o dX9_step_55 (by decide)) (fun c => ?_) (fun c => ?_)
      · have hm := if_e1 hm c
        refine zQ.s (fun h => zs_aload_n (i := 0) o dX9_step_64 rfl rfl) ?_
        refine zQ.s (fun h => zs_aload_n (i := 0) o dX9_step_65 rfl rfl) ?_
        refine zQ.s (fun h => zs_aload_n (i := 1) o dX9_step_66 rfl rfl) ?_
        obtain ⟨g14, hm⟩ := gd_e hm
        obtain ⟨y15, c_y15, hm⟩ := bd_e hm
        refine zh_Vi o g14 ml_X9_71 (J_X9_doneBy G _ _ _ _ _  c_y15) dX9_step_67 rfl rfl rfl rfl (by omega) (by omega) ?_
        obtain ⟨g16, hm⟩ := gd_e hm
        obtain ⟨g17, hm⟩ := gd_e hm
        obtain ⟨S18, e_S18, hm⟩ := lt_e hm
        refine zh_putI o g16 g17 fl_X9_32_9 rfl rfl ⟨rfl, rfl⟩ dX9_step_70 e_S18 ?_
        refine zQ.s (fun h => zs_iconst (v := 0) o dX9_step_73 (by decide)) ?_
        refine zh_reti o f dX9_step_74 rfl (by omega) (by omega) ((so_e hm).trans hR9.symm)
      · have hm := if_e2 hm c
        refine zQ.s (fun h => zs_aload_n (i := 0) o dX9_step_58 rfl rfl) ?_
        obtain ⟨g19, hm⟩ := gd_e hm
        obtain ⟨y20, c_y20, hm⟩ := bd_e hm
        refine zh_Vv o g19 ml_X9_69 (J_X9_trap G _ _ _  c_y20) dX9_step_59 rfl rfl rfl rfl (by omega) (by omega) ?_
        refine zQ.s (fun h => zs_iload_n (i := 2) o dX9_step_62 rfl rfl) ?_
        refine zh_reti o f dX9_step_63 rfl (by omega) (by omega) ((so_e hm).trans hR9.symm)
    · have hm := if_e2 hm c
      refine zQ.fg (zl_n (zl_n (zl_n zl_0))) ?_
      exact hj29 _ _ _ (by omega) (by omega) hm

def j_X1_checkArgument (h : zH) (a1 : Int32) : Option zH :=
  if a1 = (0 : Int32) then
    none
  else
    some h

set_option maxHeartbeats 40000000 in
theorem J_X1_checkArgument (G : zG) (h : zH) (a1 : Int32) (h9 : zH) (hm : j_X1_checkArgument h a1 = some h9) : zJv G yX1_checkArgument cX1_checkArgument 1 none 0 0 0 [.int a1] h h9 := by
  refine zCo.st [some (.int a1)] rfl rfl (by simp only [zarg_r, zarg_i, zarg_l, zarg_0]; rfl) (fun X o f0 hin hw0 => ?_)
  have f := f0.e
  have hin : (Xt X).name = "checkArgument" := hin
  refine (?_ : zQ (EH h) G X 0 0 0 [some (.int a1)] []) h rfl hw0
  clear hw0
  generalize hR9 : (h9 : zH) = R at hm
  unfold j_X1_checkArgument at hm
  refine zQ.s (fun h => zs_iload_n (i := 0) o dX1_checkArgument_0 rfl rfl) ?_
  refine zQ.b (fun h => zs_if_ne (tgt := 12) o dX1_checkArgument_1 (by decide)) (fun c => ?_) (fun c => ?_)
  · have hm := if_e2 hm c
    refine zh_retv o f dX1_checkArgument_12 (by omega) (by omega) ((so_e hm).trans hR9.symm)
  · have hm := if_e1 hm c
    exact no_e hm

def j_X1_checkState (h : zH) (a1 : Int32) : Option zH :=
  if a1 = (0 : Int32) then
    none
  else
    some h

set_option maxHeartbeats 40000000 in
theorem J_X1_checkState (G : zG) (h : zH) (a1 : Int32) (h9 : zH) (hm : j_X1_checkState h a1 = some h9) : zJv G yX1_checkState cX1_checkState 1 none 0 0 0 [.int a1] h h9 := by
  refine zCo.st [some (.int a1)] rfl rfl (by simp only [zarg_r, zarg_i, zarg_l, zarg_0]; rfl) (fun X o f0 hin hw0 => ?_)
  have f := f0.e
  have hin : (Xt X).name = "checkState" := hin
  refine (?_ : zQ (EH h) G X 0 0 0 [some (.int a1)] []) h rfl hw0
  clear hw0
  generalize hR9 : (h9 : zH) = R at hm
  unfold j_X1_checkState at hm
  refine zQ.s (fun h => zs_iload_n (i := 0) o dX1_checkState_0 rfl rfl) ?_
  refine zQ.b (fun h => zs_if_ne (tgt := 12) o dX1_checkState_1 (by decide)) (fun c => ?_) (fun c => ?_)
  · have hm := if_e2 hm c
    refine zh_retv o f dX1_checkState_12 (by omega) (by omega) ((so_e hm).trans hR9.symm)
  · have hm := if_e1 hm c
    exact no_e hm

def j_X1_checkElement (h : zH) (a1 : Int32) : Option zH :=
  if a1 = (0 : Int32) then
    none
  else
    some h

set_option maxHeartbeats 40000000 in
theorem J_X1_checkElement (G : zG) (h : zH) (a1 : Int32) (h9 : zH) (hm : j_X1_checkElement h a1 = some h9) : zJv G yX1_checkElement cX1_checkElement 1 none 0 0 0 [.int a1] h h9 := by
  refine zCo.st [some (.int a1)] rfl rfl (by simp only [zarg_r, zarg_i, zarg_l, zarg_0]; rfl) (fun X o f0 hin hw0 => ?_)
  have f := f0.e
  have hin : (Xt X).name = "checkElement" := hin
  refine (?_ : zQ (EH h) G X 0 0 0 [some (.int a1)] []) h rfl hw0
  clear hw0
  generalize hR9 : (h9 : zH) = R at hm
  unfold j_X1_checkElement at hm
  refine zQ.s (fun h => zs_iload_n (i := 0) o dX1_checkElement_0 rfl rfl) ?_
  refine zQ.b (fun h => zs_if_ne (tgt := 12) o dX1_checkElement_1 (by decide)) (fun c => ?_) (fun c => ?_)
  · have hm := if_e2 hm c
    refine zh_retv o f dX1_checkElement_12 (by omega) (by omega) ((so_e hm).trans hR9.symm)
  · have hm := if_e1 hm c
    exact no_e hm

def j_X1_checkIndex (h : zH) (a1 : Int32) (a2 : Int32) : Option zH :=
  bd (j_X1_isBetween h a1 (0 : Int32) (a2 - (1 : Int32))) fun y1 =>
  if y1.2 = (0 : Int32) then
    none
  else
    some y1.1

set_option maxHeartbeats 40000000 in
theorem J_X1_checkIndex (G : zG) (h : zH) (a1 : Int32) (a2 : Int32) (h9 : zH) (hm : j_X1_checkIndex h a1 a2 = some h9) : zJv G yX1_checkIndex cX1_checkIndex 2 none 1 0 0 [.int a1, .int a2] h h9 := by
  refine zCo.st [some (.int a1), some (.int a2)] rfl rfl (by simp only [zarg_r, zarg_i, zarg_l, zarg_0]; rfl) (fun X o f0 hin hw0 => ?_)
  have f := f0.e
  have hin : (Xt X).name = "checkIndex" := hin
  refine (?_ : zQ (EH h) G X 0 0 0 [some (.int a1), some (.int a2)] []) h rfl hw0
  clear hw0
  generalize hR9 : (h9 : zH) = R at hm
  unfold j_X1_checkIndex at hm
  refine zQ.s (fun h => zs_iload_n (i := 0) o dX1_checkIndex_0 rfl rfl) ?_
  refine zQ.s (fun h => zs_iconst (v := 0) o dX1_checkIndex_1 (by decide)) ?_
  refine zQ.s (fun h => zs_iload_n (i := 1) o dX1_checkIndex_2 rfl rfl) ?_
  refine zQ.s (fun h => zs_iconst (v := 1) o dX1_checkIndex_3 (by decide)) ?_
  refine zQ.s (fun h => zs_isub o dX1_checkIndex_4) ?_
  obtain ⟨y1, c_y1, hm⟩ := bd_e hm
  refine zh_Si o ml_X1_3 (J_X1_isBetween G _ _ _ _ _ _  c_y1) dX1_checkIndex_5 rfl rfl rfl rfl (by omega) (by omega) ?_
  refine zQ.b (fun h => zs_if_ne (tgt := 19) o dX1_checkIndex_8 (by decide)) (fun c => ?_) (fun c => ?_)
  · have hm := if_e2 hm c
    refine zh_retv o f dX1_checkIndex_19 (by omega) (by omega) ((so_e hm).trans hR9.symm)
  · have hm := if_e1 hm c
    exact no_e hm

def j_X1_checkFresh_j12 (h : zH) (s0 : Int32) : Option zH :=
  bd (j_X1_checkState h s0) fun y1 =>
  some y1
def j_X1_checkFresh (h : zH) (p : Nat) : Option zH :=
  gd (kd h p 1) <|
  if (hI h 1 26 p) = (0 : Int32) then
    j_X1_checkFresh_j12 h (1 : Int32)
  else
    j_X1_checkFresh_j12 h (0 : Int32)

set_option maxHeartbeats 40000000 in
theorem J_X1_checkFresh (G : zG) (h : zH) (p : Nat) (h9 : zH) (hm : j_X1_checkFresh h p = some h9) : zJv G yX1_checkFresh cX1_checkFresh 1 none 1 0 0 [zrf p] h h9 := by
  refine zCo.st [some (zrf p)] rfl rfl (by simp only [zarg_r, zarg_i, zarg_l, zarg_0]; rfl) (fun X o f0 hin hw0 => ?_)
  have f := f0.e
  have hin : (Xt X).name = "checkFresh" := hin
  refine (?_ : zQ (EH h) G X 0 0 0 [some (zrf p)] []) h rfl hw0
  clear hw0
  generalize hR9 : (h9 : zH) = R at hm
  have hj12 : ∀ (h : zH) (s0 : Int32) (cl sl : Nat), cl + (0) ≤ 0 → sl + (0) ≤ 0 → j_X1_checkFresh_j12 h s0 = some R → zQ (EH h) G X cl sl 12 [none] [.int s0] := by
    intro h s0 cl sl hc hs hm
    unfold j_X1_checkFresh_j12 at hm
    obtain ⟨y1, c_y1, hm⟩ := bd_e hm
    refine zh_Sv o ml_X1_156 (J_X1_checkState G _ _ _  c_y1) dX1_checkFresh_12 rfl rfl rfl rfl (by omega) (by omega) ?_
    refine zh_retv o f dX1_checkFresh_15 (by omega) (by omega) ((so_e hm).trans hR9.symm)
  unfold j_X1_checkFresh at hm
  refine zQ.s (fun h => zs_aload_n (i := 0) o dX1_checkFresh_0 rfl rfl) ?_
  obtain ⟨g1, hm⟩ := gd_e hm
  refine zh_getI o g1 fl_X1_153_1 rfl dX1_checkFresh_1 ?_
  refine zQ.b (fun h => zs_if_ne (tgt := 11) o dX1_checkFresh_4 (by decide)) (fun c => ?_) (fun c => ?_)
  · have hm := if_e2 hm c
    refine zQ.s (fun h => zs_iconst (v := 0) o dX1_checkFresh_11 (by decide)) ?_
    refine zQ.fg (zl_n zl_0) ?_
    exact hj12 _ _ _ _ (by omega) (by omega) hm
  · have hm := if_e1 hm c
    refine zQ.s (fun h => zs_iconst (v := 1) o dX1_checkFresh_7 (by decide)) ?_
    refine zQ.s (fun h => zs_goto (tgt := 12) o dX1_checkFresh_8 (by decide)) ?_
    refine zQ.fg (zl_n zl_0) ?_
    exact hj12 _ _ _ _ (by omega) (by omega) hm

def j_X1_freeFrom_b10 (k10 : zH → Nat → Nat → Int32 → Option zH) (h : zH) (ic : Nat) (x0 : Nat) (x1 : Int32) : Option zH :=
  gd (kd h x0 1) <|
  if (hI h 1 8 x0) ≤ x1 then
    some h
  else
    gd (kd h x0 1) <|
    bd (j_J21_valueOf h x1 ic) fun y3 =>
    gd (kd y3.1 (hR h 1 13 x0) 12) <|
    bd (j_J4_addLast y3.1 (hR h 1 13 x0) y3.2) fun y5 =>
    k10 y5 ic x0 (x1 + (1 : Int32))
def j_X1_freeFrom_l10 : Nat → zH → Nat → Nat → Int32 → Option zH
  | 0 => fun _ _ _ _ => none
  | n + 1 => j_X1_freeFrom_b10 (j_X1_freeFrom_l10 n)
def j_X1_freeFrom (h : zH) (p : Nat) (ic : Nat) : Option zH :=
  gd (kd h p 1) <|
  gd (kd h (hR h 1 13 p) 12) <|
  bd (j_J4_clear h (hR h 1 13 p)) fun y3 =>
  j_X1_freeFrom_l10 17 y3 ic p (8 : Int32)

set_option maxHeartbeats 40000000 in
theorem J_X1_freeFrom (G : zG) (h : zH) (p : Nat) (ic : Nat) (h9 : zH) (z_ih : ("java/lang/Integer$IntegerCache", "high", "I", .int 127) ∈ zGz G) (z_ic : ("java/lang/Integer$IntegerCache", "cache", "[Ljava/lang/Integer;", zrf ic) ∈ zGz G) (hm : j_X1_freeFrom h p ic = some h9) : zJv G yX1_freeFrom cX1_freeFrom 2 none 2 17 17 [zrf p] h h9 := by
  refine zCo.st [some (zrf p), none] rfl rfl (by simp only [zarg_r, zarg_i, zarg_l, zarg_0]; rfl) (fun X o f0 hin hw0 => ?_)
  have f := f0.e
  have hin : (Xt X).name = "freeFrom" := hin
  refine (?_ : zQ (EH h) G X 0 0 0 [some (zrf p), none] []) h rfl hw0
  clear hw0
  generalize hR9 : (h9 : zH) = R at hm
  have hl10 : ∀ (n10 : Nat), n10 ≤ 17 → ∀ (h : zH) (x0 : Nat) (x1 : Int32) (cl sl : Nat), cl + (n10 * 1 + 0) ≤ 17 → sl + (n10 * 1 + 0) ≤ 17 → j_X1_freeFrom_l10 n10 h ic x0 x1 = some R → zQ (EH h) G X cl sl 10 [some (zrf x0), some (.int x1)] [] := by
    intro n10
    induction n10 with
    | zero => intro _ h x0 x1 cl sl _ _ hm; exact no_e hm
    | succ n10 ih =>
      intro hf10
      have ih10 := ih (by omega)
      intro h x0 x1 cl sl hc hs hm
      have hm : j_X1_freeFrom_b10 (j_X1_freeFrom_l10 n10) h ic x0 x1 = some R := hm
      unfold j_X1_freeFrom_b10 at hm
      refine zQ.s (fun h => zs_iload_n (i := 1) o dX1_freeFrom_10 rfl rfl) ?_
      refine zQ.s (fun h => zs_aload_n (i := 0) o dX1_freeFrom_11 rfl rfl) ?_
      obtain ⟨g1, hm⟩ := gd_e hm
      refine zh_getI o g1 fl_X1_47_1 rfl dX1_freeFrom_12 ?_
      refine zQ.b (fun h => zs_icmp_ge (tgt := 35) o dX1_freeFrom_15 (by decide)) (fun c => ?_) (fun c => ?_)
      · have hm := if_e1 hm c
        refine zh_retv o f dX1_freeFrom_35 (by omega) (by omega) ((so_e hm).trans hR9.symm)
      · have hm := if_e2 hm c
        refine zQ.s (fun h => zs_aload_n (i := 0) o dX1_freeFrom_18 rfl rfl) ?_
        obtain ⟨g2, hm⟩ := gd_e hm
        refine zh_getR o g2 fl_X1_69_1 rfl dX1_freeFrom_19 ?_
        refine zQ.s (fun h => zs_iload_n (i := 1) o dX1_freeFrom_22 rfl rfl) ?_
        obtain ⟨y3, c_y3, hm⟩ := bd_e hm
        refine zh_Sr o ml_X1_131 (J_J21_valueOf G _ _ _ _ _ z_ih z_ic c_y3) dX1_freeFrom_23 rfl rfl rfl rfl (by omega) (by omega) ?_
        obtain ⟨g4, hm⟩ := gd_e hm
        obtain ⟨y5, c_y5, hm⟩ := bd_e hm
        refine zh_Vv o g4 ml_X1_137 (J_J4_addLast G _ _ _ _  c_y5) dX1_freeFrom_26 rfl rfl rfl rfl (by omega) (by omega) ?_
        refine zQ.s (fun h => zs_iinc (i := 1) (v := x1 + (1 : Int32)) o dX1_freeFrom_29 rfl rfl (by decide) (Or.inr (zc2_ref rfl)) (by simp only [List.set_cons_succ, List.set_cons_zero]; rfl)) ?_
        refine zQ.s (fun h => zs_goto (tgt := 10) o dX1_freeFrom_32 (by decide)) ?_
        exact ih10 _ _ _ _ _ (by omega) (by omega) hm
  unfold j_X1_freeFrom at hm
  refine zQ.s (fun h => zs_aload_n (i := 0) o dX1_freeFrom_0 rfl rfl) ?_
  obtain ⟨g1, hm⟩ := gd_e hm
  refine zh_getR o g1 fl_X1_69_1 rfl dX1_freeFrom_1 ?_
  obtain ⟨g2, hm⟩ := gd_e hm
  obtain ⟨y3, c_y3, hm⟩ := bd_e hm
  refine zh_Vv o g2 ml_X1_128 (J_J4_clear G _ _ _  c_y3) dX1_freeFrom_4 rfl rfl rfl rfl (by omega) (by omega) ?_
  refine zQ.s (fun h => zs_bipush (v := 8) o dX1_freeFrom_7 (by decide)) ?_
  refine zQ.s (fun h => zs_istore_n (i := 1) o dX1_freeFrom_9 rfl (by decide) (Or.inr (zc2_ref rfl)) (by simp only [List.set_cons_succ, List.set_cons_zero]; rfl)) ?_
  exact hl10 17 (Nat.le_refl _) _ _ _ _ _ (by omega) (by omega) hm

def j_X1_init_b335 (k335 : zH → Nat → Nat → Nat → Nat → Int32 → Option zH) (h : zH) (e0 : Nat) (ic : Nat) (sp : Nat) (x0 : Nat) (x1 : Int32) : Option zH :=
  if (4 : Int32) ≤ x1 then
    gd (kd h x0 1) <|
    bd (j_X1_freeFrom h x0 ic) fun y2 =>
    some y2
  else
    gd (kd h x0 1) <|
    gd (kd h (hR h 1 24 x0) 201) <|
    gd (wr h (hR h 1 24 x0)) <|
    gd (inb x1 (zN h (hR h 1 24 x0))) <|
    lt (pI h 201 (ix x1) (hR h 1 24 x0) (-1 : Int32)) fun S7 =>
    k335 S7 e0 ic sp x0 (x1 + (1 : Int32))
def j_X1_init_l335 : Nat → zH → Nat → Nat → Nat → Nat → Int32 → Option zH
  | 0 => fun _ _ _ _ _ _ => none
  | n + 1 => j_X1_init_b335 (j_X1_init_l335 n)
def j_X1_init_b313 (k313 : zH → Nat → Nat → Nat → Nat → Int32 → Option zH) (h : zH) (e0 : Nat) (ic : Nat) (sp : Nat) (x0 : Nat) (x1 : Int32) : Option zH :=
  if (16 : Int32) ≤ x1 then
    j_X1_init_l335 20 h e0 ic sp x0 (0 : Int32)
  else
    gd (kd h x0 1) <|
    gd (kd h (hR h 1 23 x0) 201) <|
    gd (wr h (hR h 1 23 x0)) <|
    gd (inb x1 (zN h (hR h 1 23 x0))) <|
    lt (pI h 201 (ix x1) (hR h 1 23 x0) (6 : Int32)) fun S5 =>
    k313 S5 e0 ic sp x0 (x1 + (1 : Int32))
def j_X1_init_l313 : Nat → zH → Nat → Nat → Nat → Nat → Int32 → Option zH
  | 0 => fun _ _ _ _ _ _ => none
  | n + 1 => j_X1_init_b313 (j_X1_init_l313 n)
def j_X1_init_b292 (k292 : zH → Nat → Nat → Nat → Nat → Int32 → Option zH) (h : zH) (e0 : Nat) (ic : Nat) (sp : Nat) (x0 : Nat) (x1 : Int32) : Option zH :=
  if (8 : Int32) ≤ x1 then
    j_X1_init_l313 20 h e0 ic sp x0 (0 : Int32)
  else
    gd (kd h x0 1) <|
    gd (kd h (hR h 1 21 x0) 201) <|
    gd (wr h (hR h 1 21 x0)) <|
    gd (inb x1 (zN h (hR h 1 21 x0))) <|
    lt (pI h 201 (ix x1) (hR h 1 21 x0) (-1 : Int32)) fun S5 =>
    k292 S5 e0 ic sp x0 (x1 + (1 : Int32))
def j_X1_init_l292 : Nat → zH → Nat → Nat → Nat → Nat → Int32 → Option zH
  | 0 => fun _ _ _ _ _ _ => none
  | n + 1 => j_X1_init_b292 (j_X1_init_l292 n)
def j_X1_init_b271 (k271 : zH → Nat → Nat → Nat → Nat → Int32 → Option zH) (h : zH) (e0 : Nat) (ic : Nat) (sp : Nat) (x0 : Nat) (x1 : Int32) : Option zH :=
  if (16 : Int32) ≤ x1 then
    j_X1_init_l292 20 h e0 ic sp x0 (0 : Int32)
  else
    gd (kd h x0 1) <|
    gd (kd h (hR h 1 20 x0) 201) <|
    gd (wr h (hR h 1 20 x0)) <|
    gd (inb x1 (zN h (hR h 1 20 x0))) <|
    lt (pI h 201 (ix x1) (hR h 1 20 x0) (1 : Int32)) fun S5 =>
    k271 S5 e0 ic sp x0 (x1 + (1 : Int32))
def j_X1_init_l271 : Nat → zH → Nat → Nat → Nat → Nat → Int32 → Option zH
  | 0 => fun _ _ _ _ _ _ => none
  | n + 1 => j_X1_init_b271 (j_X1_init_l271 n)
def j_X1_init_b235 (k235 : zH → Nat → Nat → Nat → Nat → Int32 → Option zH) (h : zH) (e0 : Nat) (ic : Nat) (sp : Nat) (x0 : Nat) (x1 : Int32) : Option zH :=
  if (8 : Int32) ≤ x1 then
    j_X1_init_l271 20 h e0 ic sp x0 (0 : Int32)
  else
    gd (kd h x0 1) <|
    gd (kd h (hR h 1 11 x0) 201) <|
    gd (wr h (hR h 1 11 x0)) <|
    gd (inb x1 (zN h (hR h 1 11 x0))) <|
    lt (pI h 201 (ix x1) (hR h 1 11 x0) x1) fun S5 =>
    gd (kd S5 x0 1) <|
    gd (kd S5 (hR S5 1 12 x0) 201) <|
    gd (wr S5 (hR S5 1 12 x0)) <|
    gd (inb x1 (zN S5 (hR S5 1 12 x0))) <|
    lt (pI S5 201 (ix x1) (hR S5 1 12 x0) x1) fun S10 =>
    gd (kd S10 x0 1) <|
    gd (kd S10 (hR S10 1 10 x0) 11) <|
    bd (j_J3_set S10 (hR S10 1 10 x0) x1) fun y13 =>
    k235 y13 e0 ic sp x0 (x1 + (1 : Int32))
def j_X1_init_l235 : Nat → zH → Nat → Nat → Nat → Nat → Int32 → Option zH
  | 0 => fun _ _ _ _ _ _ => none
  | n + 1 => j_X1_init_b235 (j_X1_init_l235 n)
def j_X1_init (h : zH) (p : Nat) (e0 : Nat) (ic : Nat) (sp : Nat) : Option zH :=
  gd (nzr p) <|
  lt (zT h + 1) fun r2 =>
  lt (nw h 10 50 0) fun S3 =>
  gd (nzr r2) <|
  bd (j_J2_init S3 r2 e0) fun y5 =>
  gd (kd y5 p 1) <|
  gd (wr y5 p) <|
  lt (pR y5 1 0 p r2) fun S8 =>
  lt (zT S8 + 1) fun r9 =>
  lt (nw S8 201 11 8) fun S10 =>
  gd (kd S10 p 1) <|
  gd (wr S10 p) <|
  lt (pR S10 1 1 p r9) fun S13 =>
  lt (zT S13 + 1) fun r14 =>
  lt (nw S13 201 12 64) fun S15 =>
  gd (kd S15 p 1) <|
  gd (wr S15 p) <|
  lt (pR S15 1 2 p r14) fun S18 =>
  lt (zT S18 + 1) fun r19 =>
  lt (nw S18 201 13 64) fun S20 =>
  gd (kd S20 p 1) <|
  gd (wr S20 p) <|
  lt (pR S20 1 3 p r19) fun S23 =>
  lt (zT S23 + 1) fun r24 =>
  lt (nw S23 2 1 0) fun S25 =>
  gd (nzr r24) <|
  bd (j_X2_init S25 r24) fun y27 =>
  gd (kd y27 p 1) <|
  gd (wr y27 p) <|
  lt (pR y27 1 4 p r24) fun S30 =>
  gd (kd S30 p 1) <|
  gd (wr S30 p) <|
  lt (pI S30 1 5 p (2 : Int32)) fun S33 =>
  gd (kd S33 p 1) <|
  gd (wr S33 p) <|
  lt (pI S33 1 6 p (8 : Int32)) fun S36 =>
  gd (kd S36 p 1) <|
  gd (wr S36 p) <|
  lt (pI S36 1 7 p (4 : Int32)) fun S39 =>
  gd (kd S39 p 1) <|
  gd (wr S39 p) <|
  lt (pI S39 1 8 p (16 : Int32)) fun S42 =>
  lt (zT S42 + 1) fun r43 =>
  lt (nw S42 201 19 24) fun S44 =>
  gd (kd S44 p 1) <|
  gd (wr S44 p) <|
  lt (pR S44 1 9 p r43) fun S47 =>
  lt (zT S47 + 1) fun r48 =>
  lt (nw S47 11 51 0) fun S49 =>
  gd (nzr r48) <|
  bd (j_J3_init S49 r48) fun y51 =>
  gd (kd y51 p 1) <|
  gd (wr y51 p) <|
  lt (pR y51 1 10 p r48) fun S54 =>
  lt (zT S54 + 1) fun r55 =>
  lt (nw S54 201 21 8) fun S56 =>
  gd (kd S56 p 1) <|
  gd (wr S56 p) <|
  lt (pR S56 1 11 p r55) fun S59 =>
  lt (zT S59 + 1) fun r60 =>
  lt (nw S59 201 22 8) fun S61 =>
  gd (kd S61 p 1) <|
  gd (wr S61 p) <|
  lt (pR S61 1 12 p r60) fun S64 =>
  lt (zT S64 + 1) fun r65 =>
  lt (nw S64 12 52 0) fun S66 =>
  gd (nzr r65) <|
  bd (j_J4_init S66 r65) fun y68 =>
  gd (kd y68 p 1) <|
  gd (wr y68 p) <|
  lt (pR y68 1 13 p r65) fun S71 =>
  lt (zT S71 + 1) fun r72 =>
  lt (nw S71 12 53 0) fun S73 =>
  gd (nzr r72) <|
  bd (j_J4_init S73 r72) fun y75 =>
  gd (kd y75 p 1) <|
  gd (wr y75 p) <|
  lt (pR y75 1 14 p r72) fun S78 =>
  lt (zT S78 + 1) fun r79 =>
  lt (nw S78 13 54 0) fun S80 =>
  gd (nzr r79) <|
  bd (j_J6_init S80 r79) fun y82 =>
  gd (kd y82 p 1) <|
  gd (wr y82 p) <|
  lt (pR y82 1 15 p r79) fun S85 =>
  lt (zT S85 + 1) fun r86 =>
  lt (nw S85 13 55 0) fun S87 =>
  gd (nzr r86) <|
  bd (j_J6_init S87 r86) fun y89 =>
  gd (kd y89 p 1) <|
  gd (wr y89 p) <|
  lt (pR y89 1 16 p r86) fun S92 =>
  lt (zT S92 + 1) fun r93 =>
  lt (nw S92 201 29 0) fun S94 =>
  gd (kd S94 p 1) <|
  gd (wr S94 p) <|
  lt (pR S94 1 19 p r93) fun S97 =>
  lt (zT S97 + 1) fun r98 =>
  lt (nw S97 201 30 16) fun S99 =>
  gd (kd S99 p 1) <|
  gd (wr S99 p) <|
  lt (pR S99 1 20 p r98) fun S102 =>
  lt (zT S102 + 1) fun r103 =>
  lt (nw S102 201 31 8) fun S104 =>
  gd (kd S104 p 1) <|
  gd (wr S104 p) <|
  lt (pR S104 1 21 p r103) fun S107 =>
  lt (zT S107 + 1) fun r108 =>
  lt (nw S107 11 56 0) fun S109 =>
  gd (nzr r108) <|
  bd (j_J3_init S109 r108) fun y111 =>
  gd (kd y111 p 1) <|
  gd (wr y111 p) <|
  lt (pR y111 1 22 p r108) fun S114 =>
  lt (zT S114 + 1) fun r115 =>
  lt (nw S114 201 33 16) fun S116 =>
  gd (kd S116 p 1) <|
  gd (wr S116 p) <|
  lt (pR S116 1 23 p r115) fun S119 =>
  lt (zT S119 + 1) fun r120 =>
  lt (nw S119 201 34 4) fun S121 =>
  gd (kd S121 p 1) <|
  gd (wr S121 p) <|
  lt (pR S121 1 24 p r120) fun S124 =>
  lt (zT S124 + 1) fun r125 =>
  lt (nw S124 13 57 0) fun S126 =>
  gd (nzr r125) <|
  bd (j_J6_init S126 r125) fun y128 =>
  gd (kd y128 p 1) <|
  gd (wr y128 p) <|
  lt (pR y128 1 25 p r125) fun S131 =>
  lt (zT S131 + 1) fun r132 =>
  lt (nw S131 10 58 0) fun S133 =>
  gd (nzr r132) <|
  bd (j_J2_init S133 r132 e0) fun y135 =>
  gd (kd y135 p 1) <|
  gd (wr y135 p) <|
  lt (pR y135 1 30 p r132) fun S138 =>
  gd (kd S138 sp 20) <|
  bd (j_J7_length S138 sp) fun y140 =>
  lt (zT y140.1 + 1) fun r141 =>
  gd (asz y140.2 8) <|
  lt (nw y140.1 201 41 (ix y140.2)) fun S143 =>
  gd (kd S143 p 1) <|
  gd (wr S143 p) <|
  lt (pR S143 1 31 p r141) fun S146 =>
  j_X1_init_l235 20 S146 e0 ic sp p (0 : Int32)

set_option maxHeartbeats 40000000 in
theorem J_X1_init (G : zG) (h : zH) (p : Nat) (e0 : Nat) (ic : Nat) (sp : Nat) (h9 : zH) (z_e0 : ("java/util/ArrayList", "DEFAULTCAPACITY_EMPTY_ELEMENTDATA", "[Ljava/lang/Object;", zrf e0) ∈ zGz G) (z_ih : ("java/lang/Integer$IntegerCache", "high", "I", .int 127) ∈ zGz G) (z_ic : ("java/lang/Integer$IntegerCache", "cache", "[Ljava/lang/Integer;", zrf ic) ∈ zGz G) (z_ad : ("java/util/BitSet", "$assertionsDisabled", "Z", .int 1) ∈ zGz G) (z_cs : ("java/lang/String", "COMPACT_STRINGS", "Z", .int 1) ∈ zGz G) (z_sp : sp = zGs G + 1) (hm : j_X1_init h p e0 ic sp = some h9) : zJv G yX1_init cX1_init 2 none 5 43 315 [zrf p] h h9 := by
  refine zCo.st [some (zrf p), none] rfl rfl (by simp only [zarg_r, zarg_i, zarg_l, zarg_0]; rfl) (fun X o f0 hin hw0 => ?_)
  have f := f0.e
  have hin : (Xt X).name = "<init>" := hin
  refine (?_ : zQ (EH h) G X 0 0 0 [some (zrf p), none] []) h rfl hw0
  clear hw0
  generalize hR9 : (h9 : zH) = R at hm
  have hl335 : ∀ (n335 : Nat), n335 ≤ 20 → ∀ (h : zH) (x0 : Nat) (x1 : Int32) (cl sl : Nat), cl + (17) ≤ 43 → sl + (17) ≤ 315 → j_X1_init_l335 n335 h e0 ic sp x0 x1 = some R → zQ (EH h) G X cl sl 335 [some (zrf x0), some (.int x1)] [] := by
    intro n335
    induction n335 with
    | zero => intro _ h x0 x1 cl sl _ _ hm; exact no_e hm
    | succ n335 ih =>
      intro hf335
      have ih335 := ih (by omega)
      intro h x0 x1 cl sl hc hs hm
      have hm : j_X1_init_b335 (j_X1_init_l335 n335) h e0 ic sp x0 x1 = some R := hm
      unfold j_X1_init_b335 at hm
      refine zQ.s (fun h => zs_iload_n (i := 1) o dX1_init_335 rfl rfl) ?_
      refine zQ.s (fun h => zs_iconst (v := 4) o dX1_init_336 (by decide)) ?_
      refine zQ.b (fun h => zs_icmp_ge (tgt := 353) o dX1_init_337 (by decide)) (fun c => ?_) (fun c => ?_)
      · have hm := if_e1 hm c
        refine zQ.s (fun h => zs_aload_n (i := 0) o dX1_init_353 rfl rfl) ?_
        obtain ⟨g1, hm⟩ := gd_e hm
        obtain ⟨y2, c_y2, hm⟩ := bd_e hm
        refine zh_Vv o g1 ml_X1_125 (J_X1_freeFrom G _ _ _ _ z_ih z_ic c_y2) dX1_init_354 rfl rfl rfl rfl (by omega) (by omega) ?_
        refine zh_retv o f dX1_init_357 (by omega) (by omega) ((so_e hm).trans hR9.symm)
      · have hm := if_e2 hm c
        refine zQ.s (fun h => zs_aload_n (i := 0) o dX1_init_340 rfl rfl) ?_
        obtain ⟨g3, hm⟩ := gd_e hm
        refine zh_getR o g3 fl_X1_101_1 rfl dX1_init_341 ?_
        refine zQ.s (fun h => zs_iload_n (i := 1) o dX1_init_344 rfl rfl) ?_
        refine zQ.s (fun h => zs_iconst (v := -1) o dX1_init_345 (by decide)) ?_
        obtain ⟨g4, hm⟩ := gd_e hm
        obtain ⟨g5, hm⟩ := gd_e hm
        obtain ⟨g6, hm⟩ := gd_e hm
        obtain ⟨S7, e_S7, hm⟩ := lt_e hm
        refine zh_iast o g4 g5 g6 dX1_init_346 e_S7 ?_
        refine zQ.s (fun h => zs_iinc (i := 1) (v := x1 + (1 : Int32)) o dX1_init_347 rfl rfl (by decide) (Or.inr (zc2_ref rfl)) (by simp only [List.set_cons_succ, List.set_cons_zero]; rfl)) ?_
        refine zQ.s (fun h => zs_goto (tgt := 335) o dX1_init_350 (by decide)) ?_
        exact ih335 _ _ _ _ _ (by omega) (by omega) hm
  have hl313 : ∀ (n313 : Nat), n313 ≤ 20 → ∀ (h : zH) (x0 : Nat) (x1 : Int32) (cl sl : Nat), cl + (17) ≤ 43 → sl + (17) ≤ 315 → j_X1_init_l313 n313 h e0 ic sp x0 x1 = some R → zQ (EH h) G X cl sl 313 [some (zrf x0), some (.int x1)] [] := by
    intro n313
    induction n313 with
    | zero => intro _ h x0 x1 cl sl _ _ hm; exact no_e hm
    | succ n313 ih =>
      intro hf313
      have ih313 := ih (by omega)
      intro h x0 x1 cl sl hc hs hm
      have hm : j_X1_init_b313 (j_X1_init_l313 n313) h e0 ic sp x0 x1 = some R := hm
      unfold j_X1_init_b313 at hm
      refine zQ.s (fun h => zs_iload_n (i := 1) o dX1_init_313 rfl rfl) ?_
      refine zQ.s (fun h => zs_bipush (v := 16) o dX1_init_314 (by decide)) ?_
      refine zQ.b (fun h => zs_icmp_ge (tgt := 333) o dX1_init_316 (by decide)) (fun c => ?_) (fun c => ?_)
      · have hm := if_e1 hm c
        refine zQ.s (fun h => zs_iconst (v := 0) o dX1_init_333 (by decide)) ?_
        refine zQ.s (fun h => zs_istore_n (i := 1) o dX1_init_334 rfl (by decide) (Or.inr (zc2_ref rfl)) (by simp only [List.set_cons_succ, List.set_cons_zero]; rfl)) ?_
        exact hl335 20 (Nat.le_refl _) _ _ _ _ _ (by omega) (by omega) hm
      · have hm := if_e2 hm c
        refine zQ.s (fun h => zs_aload_n (i := 0) o dX1_init_319 rfl rfl) ?_
        obtain ⟨g1, hm⟩ := gd_e hm
        refine zh_getR o g1 fl_X1_98_1 rfl dX1_init_320 ?_
        refine zQ.s (fun h => zs_iload_n (i := 1) o dX1_init_323 rfl rfl) ?_
        refine zQ.s (fun h => zs_bipush (v := 6) o dX1_init_324 (by decide)) ?_
        obtain ⟨g2, hm⟩ := gd_e hm
        obtain ⟨g3, hm⟩ := gd_e hm
        obtain ⟨g4, hm⟩ := gd_e hm
        obtain ⟨S5, e_S5, hm⟩ := lt_e hm
        refine zh_iast o g2 g3 g4 dX1_init_326 e_S5 ?_
        refine zQ.s (fun h => zs_iinc (i := 1) (v := x1 + (1 : Int32)) o dX1_init_327 rfl rfl (by decide) (Or.inr (zc2_ref rfl)) (by simp only [List.set_cons_succ, List.set_cons_zero]; rfl)) ?_
        refine zQ.s (fun h => zs_goto (tgt := 313) o dX1_init_330 (by decide)) ?_
        exact ih313 _ _ _ _ _ (by omega) (by omega) hm
  have hl292 : ∀ (n292 : Nat), n292 ≤ 20 → ∀ (h : zH) (x0 : Nat) (x1 : Int32) (cl sl : Nat), cl + (17) ≤ 43 → sl + (17) ≤ 315 → j_X1_init_l292 n292 h e0 ic sp x0 x1 = some R → zQ (EH h) G X cl sl 292 [some (zrf x0), some (.int x1)] [] := by
    intro n292
    induction n292 with
    | zero => intro _ h x0 x1 cl sl _ _ hm; exact no_e hm
    | succ n292 ih =>
      intro hf292
      have ih292 := ih (by omega)
      intro h x0 x1 cl sl hc hs hm
      have hm : j_X1_init_b292 (j_X1_init_l292 n292) h e0 ic sp x0 x1 = some R := hm
      unfold j_X1_init_b292 at hm
      refine zQ.s (fun h => zs_iload_n (i := 1) o dX1_init_292 rfl rfl) ?_
      refine zQ.s (fun h => zs_bipush (v := 8) o dX1_init_293 (by decide)) ?_
      refine zQ.b (fun h => zs_icmp_ge (tgt := 311) o dX1_init_295 (by decide)) (fun c => ?_) (fun c => ?_)
      · have hm := if_e1 hm c
        refine zQ.s (fun h => zs_iconst (v := 0) o dX1_init_311 (by decide)) ?_
        refine zQ.s (fun h => zs_istore_n (i := 1) o dX1_init_312 rfl (by decide) (Or.inr (zc2_ref rfl)) (by simp only [List.set_cons_succ, List.set_cons_zero]; rfl)) ?_
        exact hl313 20 (Nat.le_refl _) _ _ _ _ _ (by omega) (by omega) hm
      · have hm := if_e2 hm c
        refine zQ.s (fun h => zs_aload_n (i := 0) o dX1_init_298 rfl rfl) ?_
        obtain ⟨g1, hm⟩ := gd_e hm
        refine zh_getR o g1 fl_X1_92_1 rfl dX1_init_299 ?_
        refine zQ.s (fun h => zs_iload_n (i := 1) o dX1_init_302 rfl rfl) ?_
        refine zQ.s (fun h => zs_iconst (v := -1) o dX1_init_303 (by decide)) ?_
        obtain ⟨g2, hm⟩ := gd_e hm
        obtain ⟨g3, hm⟩ := gd_e hm
        obtain ⟨g4, hm⟩ := gd_e hm
        obtain ⟨S5, e_S5, hm⟩ := lt_e hm
        refine zh_iast o g2 g3 g4 dX1_init_304 e_S5 ?_
        refine zQ.s (fun h => zs_iinc (i := 1) (v := x1 + (1 : Int32)) o dX1_init_305 rfl rfl (by decide) (Or.inr (zc2_ref rfl)) (by simp only [List.set_cons_succ, List.set_cons_zero]; rfl)) ?_
        refine zQ.s (fun h => zs_goto (tgt := 292) o dX1_init_308 (by decide)) ?_
        exact ih292 _ _ _ _ _ (by omega) (by omega) hm
  have hl271 : ∀ (n271 : Nat), n271 ≤ 20 → ∀ (h : zH) (x0 : Nat) (x1 : Int32) (cl sl : Nat), cl + (17) ≤ 43 → sl + (17) ≤ 315 → j_X1_init_l271 n271 h e0 ic sp x0 x1 = some R → zQ (EH h) G X cl sl 271 [some (zrf x0), some (.int x1)] [] := by
    intro n271
    induction n271 with
    | zero => intro _ h x0 x1 cl sl _ _ hm; exact no_e hm
    | succ n271 ih =>
      intro hf271
      have ih271 := ih (by omega)
      intro h x0 x1 cl sl hc hs hm
      have hm : j_X1_init_b271 (j_X1_init_l271 n271) h e0 ic sp x0 x1 = some R := hm
      unfold j_X1_init_b271 at hm
      refine zQ.s (fun h => zs_iload_n (i := 1) o dX1_init_271 rfl rfl) ?_
      refine zQ.s (fun h => zs_bipush (v := 16) o dX1_init_272 (by decide)) ?_
      refine zQ.b (fun h => zs_icmp_ge (tgt := 290) o dX1_init_274 (by decide)) (fun c => ?_) (fun c => ?_)
      · have hm := if_e1 hm c
        refine zQ.s (fun h => zs_iconst (v := 0) o dX1_init_290 (by decide)) ?_
        refine zQ.s (fun h => zs_istore_n (i := 1) o dX1_init_291 rfl (by decide) (Or.inr (zc2_ref rfl)) (by simp only [List.set_cons_succ, List.set_cons_zero]; rfl)) ?_
        exact hl292 20 (Nat.le_refl _) _ _ _ _ _ (by omega) (by omega) hm
      · have hm := if_e2 hm c
        refine zQ.s (fun h => zs_aload_n (i := 0) o dX1_init_277 rfl rfl) ?_
        obtain ⟨g1, hm⟩ := gd_e hm
        refine zh_getR o g1 fl_X1_89_1 rfl dX1_init_278 ?_
        refine zQ.s (fun h => zs_iload_n (i := 1) o dX1_init_281 rfl rfl) ?_
        refine zQ.s (fun h => zs_iconst (v := 1) o dX1_init_282 (by decide)) ?_
        obtain ⟨g2, hm⟩ := gd_e hm
        obtain ⟨g3, hm⟩ := gd_e hm
        obtain ⟨g4, hm⟩ := gd_e hm
        obtain ⟨S5, e_S5, hm⟩ := lt_e hm
        refine zh_iast o g2 g3 g4 dX1_init_283 e_S5 ?_
        refine zQ.s (fun h => zs_iinc (i := 1) (v := x1 + (1 : Int32)) o dX1_init_284 rfl rfl (by decide) (Or.inr (zc2_ref rfl)) (by simp only [List.set_cons_succ, List.set_cons_zero]; rfl)) ?_
        refine zQ.s (fun h => zs_goto (tgt := 271) o dX1_init_287 (by decide)) ?_
        exact ih271 _ _ _ _ _ (by omega) (by omega) hm
  have hl235 : ∀ (n235 : Nat), n235 ≤ 20 → ∀ (h : zH) (x0 : Nat) (x1 : Int32) (cl sl : Nat), cl + (17) ≤ 43 → sl + (17) ≤ 315 → j_X1_init_l235 n235 h e0 ic sp x0 x1 = some R → zQ (EH h) G X cl sl 235 [some (zrf x0), some (.int x1)] [] := by
    intro n235
    induction n235 with
    | zero => intro _ h x0 x1 cl sl _ _ hm; exact no_e hm
    | succ n235 ih =>
      intro hf235
      have ih235 := ih (by omega)
      intro h x0 x1 cl sl hc hs hm
      have hm : j_X1_init_b235 (j_X1_init_l235 n235) h e0 ic sp x0 x1 = some R := hm
      unfold j_X1_init_b235 at hm
      refine zQ.s (fun h => zs_iload_n (i := 1) o dX1_init_235 rfl rfl) ?_
      refine zQ.s (fun h => zs_bipush (v := 8) o dX1_init_236 (by decide)) ?_
      refine zQ.b (fun h => zs_icmp_ge (tgt := 269) o dX1_init_238 (by decide)) (fun c => ?_) (fun c => ?_)
      · have hm := if_e1 hm c
        refine zQ.s (fun h => zs_iconst (v := 0) o dX1_init_269 (by decide)) ?_
        refine zQ.s (fun h => zs_istore_n (i := 1) o dX1_init_270 rfl (by decide) (Or.inr (zc2_ref rfl)) (by simp only [List.set_cons_succ, List.set_cons_zero]; rfl)) ?_
        exact hl271 20 (Nat.le_refl _) _ _ _ _ _ (by omega) (by omega) hm
      · have hm := if_e2 hm c
        refine zQ.s (fun h => zs_aload_n (i := 0) o dX1_init_241 rfl rfl) ?_
        obtain ⟨g1, hm⟩ := gd_e hm
        refine zh_getR o g1 fl_X1_60_1 rfl dX1_init_242 ?_
        refine zQ.s (fun h => zs_iload_n (i := 1) o dX1_init_245 rfl rfl) ?_
        refine zQ.s (fun h => zs_iload_n (i := 1) o dX1_init_246 rfl rfl) ?_
        obtain ⟨g2, hm⟩ := gd_e hm
        obtain ⟨g3, hm⟩ := gd_e hm
        obtain ⟨g4, hm⟩ := gd_e hm
        obtain ⟨S5, e_S5, hm⟩ := lt_e hm
        refine zh_iast o g2 g3 g4 dX1_init_247 e_S5 ?_
        refine zQ.s (fun h => zs_aload_n (i := 0) o dX1_init_248 rfl rfl) ?_
        obtain ⟨g6, hm⟩ := gd_e hm
        refine zh_getR o g6 fl_X1_63_1 rfl dX1_init_249 ?_
        refine zQ.s (fun h => zs_iload_n (i := 1) o dX1_init_252 rfl rfl) ?_
        refine zQ.s (fun h => zs_iload_n (i := 1) o dX1_init_253 rfl rfl) ?_
        obtain ⟨g7, hm⟩ := gd_e hm
        obtain ⟨g8, hm⟩ := gd_e hm
        obtain ⟨g9, hm⟩ := gd_e hm
        obtain ⟨S10, e_S10, hm⟩ := lt_e hm
        refine zh_iast o g7 g8 g9 dX1_init_254 e_S10 ?_
        refine zQ.s (fun h => zs_aload_n (i := 0) o dX1_init_255 rfl rfl) ?_
        obtain ⟨g11, hm⟩ := gd_e hm
        refine zh_getR o g11 fl_X1_56_1 rfl dX1_init_256 ?_
        refine zQ.s (fun h => zs_iload_n (i := 1) o dX1_init_259 rfl rfl) ?_
        obtain ⟨g12, hm⟩ := gd_e hm
        obtain ⟨y13, c_y13, hm⟩ := bd_e hm
        refine zh_Vv o g12 ml_X1_121 (J_J3_set G _ _ _ _ z_ad c_y13) dX1_init_260 rfl rfl rfl rfl (by omega) (by omega) ?_
        refine zQ.s (fun h => zs_iinc (i := 1) (v := x1 + (1 : Int32)) o dX1_init_263 rfl rfl (by decide) (Or.inr (zc2_ref rfl)) (by simp only [List.set_cons_succ, List.set_cons_zero]; rfl)) ?_
        refine zQ.s (fun h => zs_goto (tgt := 235) o dX1_init_266 (by decide)) ?_
        exact ih235 _ _ _ _ _ (by omega) (by omega) hm
  unfold j_X1_init at hm
  refine zQ.s (fun h => zs_aload_n (i := 0) o dX1_init_0 rfl rfl) ?_
  obtain ⟨g1, hm⟩ := gd_e hm
  refine zh_objInit o g1 q162 q163 q164 dX1_init_1 rfl rfl ?_
  refine zQ.s (fun h => zs_aload_n (i := 0) o dX1_init_4 rfl rfl) ?_
  obtain ⟨r2, e_r2, hm⟩ := lt_e hm
  obtain ⟨S3, e_S3, hm⟩ := lt_e hm
  refine zh_new (N := 3) o nl_X1_13 rfl dX1_init_5 (by omega) (by omega) e_S3 ?_
  refine zQ.nmr e_r2 ?_
  refine zQ.s (fun h => zs_dup o dX1_init_8 (by first | rfl | exact zrf_cat _)) ?_
  obtain ⟨g4, hm⟩ := gd_e hm
  obtain ⟨y5, c_y5, hm⟩ := bd_e hm
  refine zh_Iv o g4 ml_X1_15 (J_J2_init G _ _ _ _ z_e0 c_y5) dX1_init_9 rfl rfl rfl rfl (by omega) (by omega) ?_
  obtain ⟨g6, hm⟩ := gd_e hm
  obtain ⟨g7, hm⟩ := gd_e hm
  obtain ⟨S8, e_S8, hm⟩ := lt_e hm
  refine zh_putRF o hin g6 g7 fl_X1_16_1 rfl ⟨rfl, rfl⟩ dX1_init_12 e_S8 ?_
  refine zQ.s (fun h => zs_aload_n (i := 0) o dX1_init_15 rfl rfl) ?_
  refine zQ.s (fun h => zs_bipush (v := 8) o dX1_init_16 (by decide)) ?_
  obtain ⟨r9, e_r9, hm⟩ := lt_e hm
  obtain ⟨S10, e_S10, hm⟩ := lt_e hm
  refine zh_newarr (N := 8) (c := 201) o (by decide) rfl q222 (by decide) rfl (by decide) dX1_init_18 (by omega) (by omega) e_S10 ?_
  refine zQ.nmr e_r9 ?_
  obtain ⟨g11, hm⟩ := gd_e hm
  obtain ⟨g12, hm⟩ := gd_e hm
  obtain ⟨S13, e_S13, hm⟩ := lt_e hm
  refine zh_putRF o hin g11 g12 fl_X1_20_1 rfl ⟨rfl, rfl⟩ dX1_init_20 e_S13 ?_
  refine zQ.s (fun h => zs_aload_n (i := 0) o dX1_init_23 rfl rfl) ?_
  refine zQ.s (fun h => zs_bipush (v := 64) o dX1_init_24 (by decide)) ?_
  obtain ⟨r14, e_r14, hm⟩ := lt_e hm
  obtain ⟨S15, e_S15, hm⟩ := lt_e hm
  refine zh_newarr (N := 64) (c := 201) o (by decide) rfl q222 (by decide) rfl (by decide) dX1_init_26 (by omega) (by omega) e_S15 ?_
  refine zQ.nmr e_r14 ?_
  obtain ⟨g16, hm⟩ := gd_e hm
  obtain ⟨g17, hm⟩ := gd_e hm
  obtain ⟨S18, e_S18, hm⟩ := lt_e hm
  refine zh_putRF o hin g16 g17 fl_X1_24_1 rfl ⟨rfl, rfl⟩ dX1_init_28 e_S18 ?_
  refine zQ.s (fun h => zs_aload_n (i := 0) o dX1_init_31 rfl rfl) ?_
  refine zQ.s (fun h => zs_bipush (v := 64) o dX1_init_32 (by decide)) ?_
  obtain ⟨r19, e_r19, hm⟩ := lt_e hm
  obtain ⟨S20, e_S20, hm⟩ := lt_e hm
  refine zh_newarr (N := 64) (c := 201) o (by decide) rfl q222 (by decide) rfl (by decide) dX1_init_34 (by omega) (by omega) e_S20 ?_
  refine zQ.nmr e_r19 ?_
  obtain ⟨g21, hm⟩ := gd_e hm
  obtain ⟨g22, hm⟩ := gd_e hm
  obtain ⟨S23, e_S23, hm⟩ := lt_e hm
  refine zh_putRF o hin g21 g22 fl_X1_27_1 rfl ⟨rfl, rfl⟩ dX1_init_36 e_S23 ?_
  refine zQ.s (fun h => zs_aload_n (i := 0) o dX1_init_39 rfl rfl) ?_
  obtain ⟨r24, e_r24, hm⟩ := lt_e hm
  obtain ⟨S25, e_S25, hm⟩ := lt_e hm
  refine zh_new (N := 4) o nl_X1_30 rfl dX1_init_40 (by omega) (by omega) e_S25 ?_
  refine zQ.nmr e_r24 ?_
  refine zQ.s (fun h => zs_dup o dX1_init_43 (by first | rfl | exact zrf_cat _)) ?_
  obtain ⟨g26, hm⟩ := gd_e hm
  obtain ⟨y27, c_y27, hm⟩ := bd_e hm
  refine zh_Iv o g26 ml_X1_32 (J_X2_init G _ _ _  c_y27) dX1_init_44 rfl rfl rfl rfl (by omega) (by omega) ?_
  obtain ⟨g28, hm⟩ := gd_e hm
  obtain ⟨g29, hm⟩ := gd_e hm
  obtain ⟨S30, e_S30, hm⟩ := lt_e hm
  refine zh_putRF o hin g28 g29 fl_X1_33_1 rfl ⟨rfl, rfl⟩ dX1_init_47 e_S30 ?_
  refine zQ.s (fun h => zs_aload_n (i := 0) o dX1_init_50 rfl rfl) ?_
  refine zQ.s (fun h => zs_iconst (v := 2) o dX1_init_51 (by decide)) ?_
  obtain ⟨g31, hm⟩ := gd_e hm
  obtain ⟨g32, hm⟩ := gd_e hm
  obtain ⟨S33, e_S33, hm⟩ := lt_e hm
  refine zh_putI o g31 g32 fl_X1_37_1 rfl rfl ⟨rfl, rfl⟩ dX1_init_52 e_S33 ?_
  refine zQ.s (fun h => zs_aload_n (i := 0) o dX1_init_55 rfl rfl) ?_
  refine zQ.s (fun h => zs_bipush (v := 8) o dX1_init_56 (by decide)) ?_
  obtain ⟨g34, hm⟩ := gd_e hm
  obtain ⟨g35, hm⟩ := gd_e hm
  obtain ⟨S36, e_S36, hm⟩ := lt_e hm
  refine zh_putI o g34 g35 fl_X1_41_1 rfl rfl ⟨rfl, rfl⟩ dX1_init_58 e_S36 ?_
  refine zQ.s (fun h => zs_aload_n (i := 0) o dX1_init_61 rfl rfl) ?_
  refine zQ.s (fun h => zs_iconst (v := 4) o dX1_init_62 (by decide)) ?_
  obtain ⟨g37, hm⟩ := gd_e hm
  obtain ⟨g38, hm⟩ := gd_e hm
  obtain ⟨S39, e_S39, hm⟩ := lt_e hm
  refine zh_putI o g37 g38 fl_X1_44_1 rfl rfl ⟨rfl, rfl⟩ dX1_init_63 e_S39 ?_
  refine zQ.s (fun h => zs_aload_n (i := 0) o dX1_init_66 rfl rfl) ?_
  refine zQ.s (fun h => zs_bipush (v := 16) o dX1_init_67 (by decide)) ?_
  obtain ⟨g40, hm⟩ := gd_e hm
  obtain ⟨g41, hm⟩ := gd_e hm
  obtain ⟨S42, e_S42, hm⟩ := lt_e hm
  refine zh_putI o g40 g41 fl_X1_47_1 rfl rfl ⟨rfl, rfl⟩ dX1_init_69 e_S42 ?_
  refine zQ.s (fun h => zs_aload_n (i := 0) o dX1_init_72 rfl rfl) ?_
  refine zQ.s (fun h => zs_bipush (v := 24) o dX1_init_73 (by decide)) ?_
  obtain ⟨r43, e_r43, hm⟩ := lt_e hm
  obtain ⟨S44, e_S44, hm⟩ := lt_e hm
  refine zh_newarr (N := 24) (c := 201) o (by decide) rfl q222 (by decide) rfl (by decide) dX1_init_75 (by omega) (by omega) e_S44 ?_
  refine zQ.nmr e_r43 ?_
  obtain ⟨g45, hm⟩ := gd_e hm
  obtain ⟨g46, hm⟩ := gd_e hm
  obtain ⟨S47, e_S47, hm⟩ := lt_e hm
  refine zh_putRF o hin g45 g46 fl_X1_50_1 rfl ⟨rfl, rfl⟩ dX1_init_77 e_S47 ?_
  refine zQ.s (fun h => zs_aload_n (i := 0) o dX1_init_80 rfl rfl) ?_
  obtain ⟨r48, e_r48, hm⟩ := lt_e hm
  obtain ⟨S49, e_S49, hm⟩ := lt_e hm
  refine zh_new (N := 3) o nl_X1_53 rfl dX1_init_81 (by omega) (by omega) e_S49 ?_
  refine zQ.nmr e_r48 ?_
  refine zQ.s (fun h => zs_dup o dX1_init_84 (by first | rfl | exact zrf_cat _)) ?_
  obtain ⟨g50, hm⟩ := gd_e hm
  obtain ⟨y51, c_y51, hm⟩ := bd_e hm
  refine zh_Iv o g50 ml_X1_55 (J_J3_init G _ _ _  c_y51) dX1_init_85 rfl rfl rfl rfl (by omega) (by omega) ?_
  obtain ⟨g52, hm⟩ := gd_e hm
  obtain ⟨g53, hm⟩ := gd_e hm
  obtain ⟨S54, e_S54, hm⟩ := lt_e hm
  refine zh_putRF o hin g52 g53 fl_X1_56_1 rfl ⟨rfl, rfl⟩ dX1_init_88 e_S54 ?_
  refine zQ.s (fun h => zs_aload_n (i := 0) o dX1_init_91 rfl rfl) ?_
  refine zQ.s (fun h => zs_bipush (v := 8) o dX1_init_92 (by decide)) ?_
  obtain ⟨r55, e_r55, hm⟩ := lt_e hm
  obtain ⟨S56, e_S56, hm⟩ := lt_e hm
  refine zh_newarr (N := 8) (c := 201) o (by decide) rfl q222 (by decide) rfl (by decide) dX1_init_94 (by omega) (by omega) e_S56 ?_
  refine zQ.nmr e_r55 ?_
  obtain ⟨g57, hm⟩ := gd_e hm
  obtain ⟨g58, hm⟩ := gd_e hm
  obtain ⟨S59, e_S59, hm⟩ := lt_e hm
  refine zh_putRF o hin g57 g58 fl_X1_60_1 rfl ⟨rfl, rfl⟩ dX1_init_96 e_S59 ?_
  refine zQ.s (fun h => zs_aload_n (i := 0) o dX1_init_99 rfl rfl) ?_
  refine zQ.s (fun h => zs_bipush (v := 8) o dX1_init_100 (by decide)) ?_
  obtain ⟨r60, e_r60, hm⟩ := lt_e hm
  obtain ⟨S61, e_S61, hm⟩ := lt_e hm
  refine zh_newarr (N := 8) (c := 201) o (by decide) rfl q222 (by decide) rfl (by decide) dX1_init_102 (by omega) (by omega) e_S61 ?_
  refine zQ.nmr e_r60 ?_
  obtain ⟨g62, hm⟩ := gd_e hm
  obtain ⟨g63, hm⟩ := gd_e hm
  obtain ⟨S64, e_S64, hm⟩ := lt_e hm
  refine zh_putRF o hin g62 g63 fl_X1_63_1 rfl ⟨rfl, rfl⟩ dX1_init_104 e_S64 ?_
  refine zQ.s (fun h => zs_aload_n (i := 0) o dX1_init_107 rfl rfl) ?_
  obtain ⟨r65, e_r65, hm⟩ := lt_e hm
  obtain ⟨S66, e_S66, hm⟩ := lt_e hm
  refine zh_new (N := 3) o nl_X1_66 rfl dX1_init_108 (by omega) (by omega) e_S66 ?_
  refine zQ.nmr e_r65 ?_
  refine zQ.s (fun h => zs_dup o dX1_init_111 (by first | rfl | exact zrf_cat _)) ?_
  obtain ⟨g67, hm⟩ := gd_e hm
  obtain ⟨y68, c_y68, hm⟩ := bd_e hm
  refine zh_Iv o g67 ml_X1_68 (J_J4_init G _ _ _  c_y68) dX1_init_112 rfl rfl rfl rfl (by omega) (by omega) ?_
  obtain ⟨g69, hm⟩ := gd_e hm
  obtain ⟨g70, hm⟩ := gd_e hm
  obtain ⟨S71, e_S71, hm⟩ := lt_e hm
  refine zh_putRF o hin g69 g70 fl_X1_69_1 rfl ⟨rfl, rfl⟩ dX1_init_115 e_S71 ?_
  refine zQ.s (fun h => zs_aload_n (i := 0) o dX1_init_118 rfl rfl) ?_
  obtain ⟨r72, e_r72, hm⟩ := lt_e hm
  obtain ⟨S73, e_S73, hm⟩ := lt_e hm
  refine zh_new (N := 3) o nl_X1_66 rfl dX1_init_119 (by omega) (by omega) e_S73 ?_
  refine zQ.nmr e_r72 ?_
  refine zQ.s (fun h => zs_dup o dX1_init_122 (by first | rfl | exact zrf_cat _)) ?_
  obtain ⟨g74, hm⟩ := gd_e hm
  obtain ⟨y75, c_y75, hm⟩ := bd_e hm
  refine zh_Iv o g74 ml_X1_68 (J_J4_init G _ _ _  c_y75) dX1_init_123 rfl rfl rfl rfl (by omega) (by omega) ?_
  obtain ⟨g76, hm⟩ := gd_e hm
  obtain ⟨g77, hm⟩ := gd_e hm
  obtain ⟨S78, e_S78, hm⟩ := lt_e hm
  refine zh_putRF o hin g76 g77 fl_X1_73_1 rfl ⟨rfl, rfl⟩ dX1_init_126 e_S78 ?_
  refine zQ.s (fun h => zs_aload_n (i := 0) o dX1_init_129 rfl rfl) ?_
  obtain ⟨r79, e_r79, hm⟩ := lt_e hm
  obtain ⟨S80, e_S80, hm⟩ := lt_e hm
  refine zh_new (N := 4) o nl_X1_76 rfl dX1_init_130 (by omega) (by omega) e_S80 ?_
  refine zQ.nmr e_r79 ?_
  refine zQ.s (fun h => zs_dup o dX1_init_133 (by first | rfl | exact zrf_cat _)) ?_
  obtain ⟨g81, hm⟩ := gd_e hm
  obtain ⟨y82, c_y82, hm⟩ := bd_e hm
  refine zh_Iv o g81 ml_X1_78 (J_J6_init G _ _ _  c_y82) dX1_init_134 rfl rfl rfl rfl (by omega) (by omega) ?_
  obtain ⟨g83, hm⟩ := gd_e hm
  obtain ⟨g84, hm⟩ := gd_e hm
  obtain ⟨S85, e_S85, hm⟩ := lt_e hm
  refine zh_putRF o hin g83 g84 fl_X1_79_1 rfl ⟨rfl, rfl⟩ dX1_init_137 e_S85 ?_
  refine zQ.s (fun h => zs_aload_n (i := 0) o dX1_init_140 rfl rfl) ?_
  obtain ⟨r86, e_r86, hm⟩ := lt_e hm
  obtain ⟨S87, e_S87, hm⟩ := lt_e hm
  refine zh_new (N := 4) o nl_X1_76 rfl dX1_init_141 (by omega) (by omega) e_S87 ?_
  refine zQ.nmr e_r86 ?_
  refine zQ.s (fun h => zs_dup o dX1_init_144 (by first | rfl | exact zrf_cat _)) ?_
  obtain ⟨g88, hm⟩ := gd_e hm
  obtain ⟨y89, c_y89, hm⟩ := bd_e hm
  refine zh_Iv o g88 ml_X1_78 (J_J6_init G _ _ _  c_y89) dX1_init_145 rfl rfl rfl rfl (by omega) (by omega) ?_
  obtain ⟨g90, hm⟩ := gd_e hm
  obtain ⟨g91, hm⟩ := gd_e hm
  obtain ⟨S92, e_S92, hm⟩ := lt_e hm
  refine zh_putRF o hin g90 g91 fl_X1_83_1 rfl ⟨rfl, rfl⟩ dX1_init_148 e_S92 ?_
  refine zQ.s (fun h => zs_aload_n (i := 0) o dX1_init_151 rfl rfl) ?_
  refine zQ.s (fun h => zs_iconst (v := 0) o dX1_init_152 (by decide)) ?_
  obtain ⟨r93, e_r93, hm⟩ := lt_e hm
  obtain ⟨S94, e_S94, hm⟩ := lt_e hm
  refine zh_newarr (N := 0) (c := 201) o (by decide) rfl q222 (by decide) rfl (by decide) dX1_init_153 (by omega) (by omega) e_S94 ?_
  refine zQ.nmr e_r93 ?_
  obtain ⟨g95, hm⟩ := gd_e hm
  obtain ⟨g96, hm⟩ := gd_e hm
  obtain ⟨S97, e_S97, hm⟩ := lt_e hm
  refine zh_putR o g95 g96 fl_X1_86_1 rfl rfl dX1_init_155 e_S97 ?_
  refine zQ.s (fun h => zs_aload_n (i := 0) o dX1_init_158 rfl rfl) ?_
  refine zQ.s (fun h => zs_bipush (v := 16) o dX1_init_159 (by decide)) ?_
  obtain ⟨r98, e_r98, hm⟩ := lt_e hm
  obtain ⟨S99, e_S99, hm⟩ := lt_e hm
  refine zh_newarr (N := 16) (c := 201) o (by decide) rfl q222 (by decide) rfl (by decide) dX1_init_161 (by omega) (by omega) e_S99 ?_
  refine zQ.nmr e_r98 ?_
  obtain ⟨g100, hm⟩ := gd_e hm
  obtain ⟨g101, hm⟩ := gd_e hm
  obtain ⟨S102, e_S102, hm⟩ := lt_e hm
  refine zh_putRF o hin g100 g101 fl_X1_89_1 rfl ⟨rfl, rfl⟩ dX1_init_163 e_S102 ?_
  refine zQ.s (fun h => zs_aload_n (i := 0) o dX1_init_166 rfl rfl) ?_
  refine zQ.s (fun h => zs_bipush (v := 8) o dX1_init_167 (by decide)) ?_
  obtain ⟨r103, e_r103, hm⟩ := lt_e hm
  obtain ⟨S104, e_S104, hm⟩ := lt_e hm
  refine zh_newarr (N := 8) (c := 201) o (by decide) rfl q222 (by decide) rfl (by decide) dX1_init_169 (by omega) (by omega) e_S104 ?_
  refine zQ.nmr e_r103 ?_
  obtain ⟨g105, hm⟩ := gd_e hm
  obtain ⟨g106, hm⟩ := gd_e hm
  obtain ⟨S107, e_S107, hm⟩ := lt_e hm
  refine zh_putRF o hin g105 g106 fl_X1_92_1 rfl ⟨rfl, rfl⟩ dX1_init_171 e_S107 ?_
  refine zQ.s (fun h => zs_aload_n (i := 0) o dX1_init_174 rfl rfl) ?_
  obtain ⟨r108, e_r108, hm⟩ := lt_e hm
  obtain ⟨S109, e_S109, hm⟩ := lt_e hm
  refine zh_new (N := 3) o nl_X1_53 rfl dX1_init_175 (by omega) (by omega) e_S109 ?_
  refine zQ.nmr e_r108 ?_
  refine zQ.s (fun h => zs_dup o dX1_init_178 (by first | rfl | exact zrf_cat _)) ?_
  obtain ⟨g110, hm⟩ := gd_e hm
  obtain ⟨y111, c_y111, hm⟩ := bd_e hm
  refine zh_Iv o g110 ml_X1_55 (J_J3_init G _ _ _  c_y111) dX1_init_179 rfl rfl rfl rfl (by omega) (by omega) ?_
  obtain ⟨g112, hm⟩ := gd_e hm
  obtain ⟨g113, hm⟩ := gd_e hm
  obtain ⟨S114, e_S114, hm⟩ := lt_e hm
  refine zh_putRF o hin g112 g113 fl_X1_95_1 rfl ⟨rfl, rfl⟩ dX1_init_182 e_S114 ?_
  refine zQ.s (fun h => zs_aload_n (i := 0) o dX1_init_185 rfl rfl) ?_
  refine zQ.s (fun h => zs_bipush (v := 16) o dX1_init_186 (by decide)) ?_
  obtain ⟨r115, e_r115, hm⟩ := lt_e hm
  obtain ⟨S116, e_S116, hm⟩ := lt_e hm
  refine zh_newarr (N := 16) (c := 201) o (by decide) rfl q222 (by decide) rfl (by decide) dX1_init_188 (by omega) (by omega) e_S116 ?_
  refine zQ.nmr e_r115 ?_
  obtain ⟨g117, hm⟩ := gd_e hm
  obtain ⟨g118, hm⟩ := gd_e hm
  obtain ⟨S119, e_S119, hm⟩ := lt_e hm
  refine zh_putRF o hin g117 g118 fl_X1_98_1 rfl ⟨rfl, rfl⟩ dX1_init_190 e_S119 ?_
  refine zQ.s (fun h => zs_aload_n (i := 0) o dX1_init_193 rfl rfl) ?_
  refine zQ.s (fun h => zs_iconst (v := 4) o dX1_init_194 (by decide)) ?_
  obtain ⟨r120, e_r120, hm⟩ := lt_e hm
  obtain ⟨S121, e_S121, hm⟩ := lt_e hm
  refine zh_newarr (N := 4) (c := 201) o (by decide) rfl q222 (by decide) rfl (by decide) dX1_init_195 (by omega) (by omega) e_S121 ?_
  refine zQ.nmr e_r120 ?_
  obtain ⟨g122, hm⟩ := gd_e hm
  obtain ⟨g123, hm⟩ := gd_e hm
  obtain ⟨S124, e_S124, hm⟩ := lt_e hm
  refine zh_putRF o hin g122 g123 fl_X1_101_1 rfl ⟨rfl, rfl⟩ dX1_init_197 e_S124 ?_
  refine zQ.s (fun h => zs_aload_n (i := 0) o dX1_init_200 rfl rfl) ?_
  obtain ⟨r125, e_r125, hm⟩ := lt_e hm
  obtain ⟨S126, e_S126, hm⟩ := lt_e hm
  refine zh_new (N := 4) o nl_X1_76 rfl dX1_init_201 (by omega) (by omega) e_S126 ?_
  refine zQ.nmr e_r125 ?_
  refine zQ.s (fun h => zs_dup o dX1_init_204 (by first | rfl | exact zrf_cat _)) ?_
  obtain ⟨g127, hm⟩ := gd_e hm
  obtain ⟨y128, c_y128, hm⟩ := bd_e hm
  refine zh_Iv o g127 ml_X1_78 (J_J6_init G _ _ _  c_y128) dX1_init_205 rfl rfl rfl rfl (by omega) (by omega) ?_
  obtain ⟨g129, hm⟩ := gd_e hm
  obtain ⟨g130, hm⟩ := gd_e hm
  obtain ⟨S131, e_S131, hm⟩ := lt_e hm
  refine zh_putRF o hin g129 g130 fl_X1_104_1 rfl ⟨rfl, rfl⟩ dX1_init_208 e_S131 ?_
  refine zQ.s (fun h => zs_aload_n (i := 0) o dX1_init_211 rfl rfl) ?_
  obtain ⟨r132, e_r132, hm⟩ := lt_e hm
  obtain ⟨S133, e_S133, hm⟩ := lt_e hm
  refine zh_new (N := 3) o nl_X1_13 rfl dX1_init_212 (by omega) (by omega) e_S133 ?_
  refine zQ.nmr e_r132 ?_
  refine zQ.s (fun h => zs_dup o dX1_init_215 (by first | rfl | exact zrf_cat _)) ?_
  obtain ⟨g134, hm⟩ := gd_e hm
  obtain ⟨y135, c_y135, hm⟩ := bd_e hm
  refine zh_Iv o g134 ml_X1_15 (J_J2_init G _ _ _ _ z_e0 c_y135) dX1_init_216 rfl rfl rfl rfl (by omega) (by omega) ?_
  obtain ⟨g136, hm⟩ := gd_e hm
  obtain ⟨g137, hm⟩ := gd_e hm
  obtain ⟨S138, e_S138, hm⟩ := lt_e hm
  refine zh_putRF o hin g136 g137 fl_X1_107_1 rfl ⟨rfl, rfl⟩ dX1_init_219 e_S138 ?_
  refine zQ.s (fun h => zs_aload_n (i := 0) o dX1_init_222 rfl rfl) ?_
  refine zh_ldcS o z_sp dX1_init_223 ?_
  obtain ⟨g139, hm⟩ := gd_e hm
  obtain ⟨y140, c_y140, hm⟩ := bd_e hm
  refine zh_Vi o g139 ml_X1_112 (J_J7_length G _ _ _ _ z_cs c_y140) dX1_init_225 rfl rfl rfl rfl (by omega) (by omega) ?_
  obtain ⟨r141, e_r141, hm⟩ := lt_e hm
  obtain ⟨g142, hm⟩ := gd_e hm
  have hz_g142 := asz_m g142
  obtain ⟨S143, e_S143, hm⟩ := lt_e hm
  refine zh_newarr (c := 201) o (by decide) rfl q222 (asz_n g142) rfl (Nat.le_trans (asz_m g142) (by decide)) dX1_init_228 (by omega) (by omega) e_S143 ?_
  refine zQ.nmr e_r141 ?_
  obtain ⟨g144, hm⟩ := gd_e hm
  obtain ⟨g145, hm⟩ := gd_e hm
  obtain ⟨S146, e_S146, hm⟩ := lt_e hm
  refine zh_putRF o hin g144 g145 fl_X1_118_1 rfl ⟨rfl, rfl⟩ dX1_init_230 e_S146 ?_
  refine zQ.s (fun h => zs_iconst (v := 0) o dX1_init_233 (by decide)) ?_
  refine zQ.s (fun h => zs_istore_n (i := 1) o dX1_init_234 rfl (by decide) (Or.inr (zc2_ref rfl)) (by simp only [List.set_cons_succ, List.set_cons_zero]; rfl)) ?_
  exact hl235 20 (Nat.le_refl _) _ _ _ _ _ (by omega) (by omega) hm
