/-! THE REFERENCE, method by method: what it does (m_) and that it does it (M_): printed by mk30.py -/
set_option maxRecDepth 100000
def m_in_j15 (s0 : Int32) : Option Int32 :=
  gd (b01 s0) <|
  some s0
def m_in_j14  : Option Int32 :=
  m_in_j15 (0 : Int32)
def m_in (a1 : Int32) (a2 : Int32) (a3 : Int32) : Option Int32 :=
  if a1 < a2 then
    m_in_j14 
  else
    if a3 < a1 then
      m_in_j14 
    else
      m_in_j15 (1 : Int32)

set_option maxHeartbeats 40000000 in
theorem M_in (G : zG) (a1 : Int32) (a2 : Int32) (a3 : Int32) (R : Int32) (hm : m_in a1 a2 a3 = some R) : zSi G yX3_in cX3_in 3 (some .boolean) 0 [.int a1, .int a2, .int a3] R := by
  intro h0
  refine zCo.st [some (.int a1), some (.int a2), some (.int a3)] rfl rfl (by simp only [zarg_r, zarg_i, zarg_l, zarg_0]; rfl) (fun X o f0 hin hw0 => ?_)
  have f := f0.e
  refine (?_ : zQ (fun h => h = h0) G X 0 0 0 [some (.int a1), some (.int a2), some (.int a3)] []) h0 rfl hw0
  have hR9 : R = R := rfl
  have hj15 : ∀ (s0 : Int32) (cl sl : Nat), cl + (0) ≤ 0 → sl + (0) ≤ 0 → m_in_j15 s0 = some R → zQ (fun h => h = h0) G X cl sl 15 [none, none, none] [.int s0] := by
    intro s0 cl sl hc hs hm
    unfold m_in_j15 at hm
    obtain ⟨g1, hm⟩ := gd_e hm
    refine zQ_reti o f dX3_in_15 (b01_e g1).1 (by omega) (by omega) (so_e hm)
  have hj14 : ∀  (cl sl : Nat), cl + (0) ≤ 0 → sl + (0) ≤ 0 → m_in_j14  = some R → zQ (fun h => h = h0) G X cl sl 14 [none, none, none] [] := by
    intro  cl sl hc hs hm
    unfold m_in_j14 at hm
    refine zQ.s (fun h => zs_iconst (v := 0) o dX3_in_14 (by decide)) ?_
    exact hj15 _ _ _ (by omega) (by omega) hm
  unfold m_in at hm
  refine zQ.s (fun h => zs_iload_n (i := 0) o dX3_in_0 rfl rfl) ?_
  refine zQ.s (fun h => zs_iload_n (i := 1) o dX3_in_1 rfl rfl) ?_
  refine zQ.b (fun h => zs_icmp_lt (tgt := 14) o dX3_in_2 (by decide)) (fun c => ?_) (fun c => ?_)
  · have hm := if_e1 hm c
    refine zQ.fg (zl_n (zl_n (zl_n zl_0))) ?_
    exact hj14  _ _ (by omega) (by omega) hm
  · have hm := if_e2 hm c
    refine zQ.s (fun h => zs_iload_n (i := 0) o dX3_in_5 rfl rfl) ?_
    refine zQ.s (fun h => zs_iload_n (i := 2) o dX3_in_6 rfl rfl) ?_
    refine zQ.b (fun h => zs_icmp_gt (tgt := 14) o dX3_in_7 (by decide)) (fun c => ?_) (fun c => ?_)
    · have hm := if_e1 hm c
      refine zQ.fg (zl_n (zl_n (zl_n zl_0))) ?_
      exact hj14  _ _ (by omega) (by omega) hm
    · have hm := if_e2 hm c
      refine zQ.s (fun h => zs_iconst (v := 1) o dX3_in_10 (by decide)) ?_
      refine zQ.s (fun h => zs_goto (tgt := 15) o dX3_in_11 (by decide)) ?_
      refine zQ.fg (zl_n (zl_n (zl_n zl_0))) ?_
      exact hj15 _ _ _ (by omega) (by omega) hm

def m_hasD_j21 (s0 : Int32) : Option Int32 :=
  gd (b01 s0) <|
  some s0
def m_hasD_j16  : Option Int32 :=
  m_hasD_j21 (1 : Int32)
def m_hasD (a1 : Int32) : Option Int32 :=
  bd (m_in a1 (1 : Int32) (9 : Int32)) fun y1 =>
  if y1 = (0 : Int32) then
    if a1 = (15 : Int32) then
      m_hasD_j16 
    else
      m_hasD_j21 (0 : Int32)
  else
    m_hasD_j16 

set_option maxHeartbeats 40000000 in
theorem M_hasD (G : zG) (a1 : Int32) (R : Int32) (hm : m_hasD a1 = some R) : zSi G yX3_hasD cX3_hasD 1 (some .boolean) 1 [.int a1] R := by
  intro h0
  refine zCo.st [some (.int a1)] rfl rfl (by simp only [zarg_r, zarg_i, zarg_l, zarg_0]; rfl) (fun X o f0 hin hw0 => ?_)
  have f := f0.e
  refine (?_ : zQ (fun h => h = h0) G X 0 0 0 [some (.int a1)] []) h0 rfl hw0
  have hR9 : R = R := rfl
  have hj21 : ∀ (s0 : Int32) (cl sl : Nat), cl + (0) ≤ 0 → sl + (0) ≤ 0 → m_hasD_j21 s0 = some R → zQ (fun h => h = h0) G X cl sl 21 [none] [.int s0] := by
    intro s0 cl sl hc hs hm
    unfold m_hasD_j21 at hm
    obtain ⟨g1, hm⟩ := gd_e hm
    refine zQ_reti o f dX3_hasD_21 (b01_e g1).1 (by omega) (by omega) (so_e hm)
  have hj16 : ∀  (cl sl : Nat), cl + (0) ≤ 0 → sl + (0) ≤ 0 → m_hasD_j16  = some R → zQ (fun h => h = h0) G X cl sl 16 [none] [] := by
    intro  cl sl hc hs hm
    unfold m_hasD_j16 at hm
    refine zQ.s (fun h => zs_iconst (v := 1) o dX3_hasD_16 (by decide)) ?_
    refine zQ.s (fun h => zs_goto (tgt := 21) o dX3_hasD_17 (by decide)) ?_
    exact hj21 _ _ _ (by omega) (by omega) hm
  unfold m_hasD at hm
  refine zQ.s (fun h => zs_iload_n (i := 0) o dX3_hasD_0 rfl rfl) ?_
  refine zQ.s (fun h => zs_iconst (v := 1) o dX3_hasD_1 (by decide)) ?_
  refine zQ.s (fun h => zs_bipush (v := 9) o dX3_hasD_2 (by decide)) ?_
  obtain ⟨y1, c_y1, hm⟩ := bd_e hm
  refine zQ_Si o ml_X3_129 (M_in G _ _ _ _ c_y1) dX3_hasD_4 rfl rfl rfl rfl (by omega) (by omega) ?_
  refine zQ.b (fun h => zs_if_ne (tgt := 16) o dX3_hasD_7 (by decide)) (fun c => ?_) (fun c => ?_)
  · have hm := if_e2 hm c
    refine zQ.fg (zl_n zl_0) ?_
    exact hj16  _ _ (by omega) (by omega) hm
  · have hm := if_e1 hm c
    refine zQ.s (fun h => zs_iload_n (i := 0) o dX3_hasD_10 rfl rfl) ?_
    refine zQ.s (fun h => zs_bipush (v := 15) o dX3_hasD_11 (by decide)) ?_
    refine zQ.b (fun h => zs_icmp_ne (tgt := 20) o dX3_hasD_13 (by decide)) (fun c => ?_) (fun c => ?_)
    · have hm := if_e2 hm c
      refine zQ.s (fun h => zs_iconst (v := 0) o dX3_hasD_20 (by decide)) ?_
      refine zQ.fg (zl_n zl_0) ?_
      exact hj21 _ _ _ (by omega) (by omega) hm
    · have hm := if_e1 hm c
      refine zQ.fg (zl_n zl_0) ?_
      exact hj16  _ _ (by omega) (by omega) hm

def m_isQueued_j27 (s0 : Int32) : Option Int32 :=
  gd (b01 s0) <|
  some s0
def m_isQueued_j22  : Option Int32 :=
  m_isQueued_j27 (1 : Int32)
def m_isQueued (a1 : Int32) : Option Int32 :=
  bd (m_in a1 (1 : Int32) (13 : Int32)) fun y1 =>
  if y1 = (0 : Int32) then
    if a1 = (16 : Int32) then
      m_isQueued_j22 
    else
      if a1 = (17 : Int32) then
        m_isQueued_j22 
      else
        m_isQueued_j27 (0 : Int32)
  else
    m_isQueued_j22 

set_option maxHeartbeats 40000000 in
theorem M_isQueued (G : zG) (a1 : Int32) (R : Int32) (hm : m_isQueued a1 = some R) : zSi G yX3_isQueued cX3_isQueued 1 (some .boolean) 1 [.int a1] R := by
  intro h0
  refine zCo.st [some (.int a1)] rfl rfl (by simp only [zarg_r, zarg_i, zarg_l, zarg_0]; rfl) (fun X o f0 hin hw0 => ?_)
  have f := f0.e
  refine (?_ : zQ (fun h => h = h0) G X 0 0 0 [some (.int a1)] []) h0 rfl hw0
  have hR9 : R = R := rfl
  have hj27 : ∀ (s0 : Int32) (cl sl : Nat), cl + (0) ≤ 0 → sl + (0) ≤ 0 → m_isQueued_j27 s0 = some R → zQ (fun h => h = h0) G X cl sl 27 [none] [.int s0] := by
    intro s0 cl sl hc hs hm
    unfold m_isQueued_j27 at hm
    obtain ⟨g1, hm⟩ := gd_e hm
    refine zQ_reti o f dX3_isQueued_27 (b01_e g1).1 (by omega) (by omega) (so_e hm)
  have hj22 : ∀  (cl sl : Nat), cl + (0) ≤ 0 → sl + (0) ≤ 0 → m_isQueued_j22  = some R → zQ (fun h => h = h0) G X cl sl 22 [none] [] := by
    intro  cl sl hc hs hm
    unfold m_isQueued_j22 at hm
    refine zQ.s (fun h => zs_iconst (v := 1) o dX3_isQueued_22 (by decide)) ?_
    refine zQ.s (fun h => zs_goto (tgt := 27) o dX3_isQueued_23 (by decide)) ?_
    exact hj27 _ _ _ (by omega) (by omega) hm
  unfold m_isQueued at hm
  refine zQ.s (fun h => zs_iload_n (i := 0) o dX3_isQueued_0 rfl rfl) ?_
  refine zQ.s (fun h => zs_iconst (v := 1) o dX3_isQueued_1 (by decide)) ?_
  refine zQ.s (fun h => zs_bipush (v := 13) o dX3_isQueued_2 (by decide)) ?_
  obtain ⟨y1, c_y1, hm⟩ := bd_e hm
  refine zQ_Si o ml_X3_129 (M_in G _ _ _ _ c_y1) dX3_isQueued_4 rfl rfl rfl rfl (by omega) (by omega) ?_
  refine zQ.b (fun h => zs_if_ne (tgt := 22) o dX3_isQueued_7 (by decide)) (fun c => ?_) (fun c => ?_)
  · have hm := if_e2 hm c
    refine zQ.fg (zl_n zl_0) ?_
    exact hj22  _ _ (by omega) (by omega) hm
  · have hm := if_e1 hm c
    refine zQ.s (fun h => zs_iload_n (i := 0) o dX3_isQueued_10 rfl rfl) ?_
    refine zQ.s (fun h => zs_bipush (v := 16) o dX3_isQueued_11 (by decide)) ?_
    refine zQ.b (fun h => zs_icmp_eq (tgt := 22) o dX3_isQueued_13 (by decide)) (fun c => ?_) (fun c => ?_)
    · have hm := if_e1 hm c
      refine zQ.fg (zl_n zl_0) ?_
      exact hj22  _ _ (by omega) (by omega) hm
    · have hm := if_e2 hm c
      refine zQ.s (fun h => zs_iload_n (i := 0) o dX3_isQueued_16 rfl rfl) ?_
      refine zQ.s (fun h => zs_bipush (v := 17) o dX3_isQueued_17 (by decide)) ?_
      refine zQ.b (fun h => zs_icmp_ne (tgt := 26) o dX3_isQueued_19 (by decide)) (fun c => ?_) (fun c => ?_)
      · have hm := if_e2 hm c
        refine zQ.s (fun h => zs_iconst (v := 0) o dX3_isQueued_26 (by decide)) ?_
        refine zQ.fg (zl_n zl_0) ?_
        exact hj27 _ _ _ (by omega) (by omega) hm
      · have hm := if_e1 hm c
        refine zQ.fg (zl_n zl_0) ?_
        exact hj22  _ _ (by omega) (by omega) hm

def m_isStore_j17 (s0 : Int32) : Option Int32 :=
  gd (b01 s0) <|
  some s0
def m_isStore_j12  : Option Int32 :=
  m_isStore_j17 (1 : Int32)
def m_isStore (a1 : Int32) : Option Int32 :=
  if a1 = (10 : Int32) then
    m_isStore_j12 
  else
    if a1 = (11 : Int32) then
      m_isStore_j12 
    else
      m_isStore_j17 (0 : Int32)

set_option maxHeartbeats 40000000 in
theorem M_isStore (G : zG) (a1 : Int32) (R : Int32) (hm : m_isStore a1 = some R) : zSi G yX3_isStore cX3_isStore 1 (some .boolean) 0 [.int a1] R := by
  intro h0
  refine zCo.st [some (.int a1)] rfl rfl (by simp only [zarg_r, zarg_i, zarg_l, zarg_0]; rfl) (fun X o f0 hin hw0 => ?_)
  have f := f0.e
  refine (?_ : zQ (fun h => h = h0) G X 0 0 0 [some (.int a1)] []) h0 rfl hw0
  have hR9 : R = R := rfl
  have hj17 : ∀ (s0 : Int32) (cl sl : Nat), cl + (0) ≤ 0 → sl + (0) ≤ 0 → m_isStore_j17 s0 = some R → zQ (fun h => h = h0) G X cl sl 17 [none] [.int s0] := by
    intro s0 cl sl hc hs hm
    unfold m_isStore_j17 at hm
    obtain ⟨g1, hm⟩ := gd_e hm
    refine zQ_reti o f dX3_isStore_17 (b01_e g1).1 (by omega) (by omega) (so_e hm)
  have hj12 : ∀  (cl sl : Nat), cl + (0) ≤ 0 → sl + (0) ≤ 0 → m_isStore_j12  = some R → zQ (fun h => h = h0) G X cl sl 12 [none] [] := by
    intro  cl sl hc hs hm
    unfold m_isStore_j12 at hm
    refine zQ.s (fun h => zs_iconst (v := 1) o dX3_isStore_12 (by decide)) ?_
    refine zQ.s (fun h => zs_goto (tgt := 17) o dX3_isStore_13 (by decide)) ?_
    exact hj17 _ _ _ (by omega) (by omega) hm
  unfold m_isStore at hm
  refine zQ.s (fun h => zs_iload_n (i := 0) o dX3_isStore_0 rfl rfl) ?_
  refine zQ.s (fun h => zs_bipush (v := 10) o dX3_isStore_1 (by decide)) ?_
  refine zQ.b (fun h => zs_icmp_eq (tgt := 12) o dX3_isStore_3 (by decide)) (fun c => ?_) (fun c => ?_)
  · have hm := if_e1 hm c
    refine zQ.fg (zl_n zl_0) ?_
    exact hj12  _ _ (by omega) (by omega) hm
  · have hm := if_e2 hm c
    refine zQ.s (fun h => zs_iload_n (i := 0) o dX3_isStore_6 rfl rfl) ?_
    refine zQ.s (fun h => zs_bipush (v := 11) o dX3_isStore_7 (by decide)) ?_
    refine zQ.b (fun h => zs_icmp_ne (tgt := 16) o dX3_isStore_9 (by decide)) (fun c => ?_) (fun c => ?_)
    · have hm := if_e2 hm c
      refine zQ.s (fun h => zs_iconst (v := 0) o dX3_isStore_16 (by decide)) ?_
      refine zQ.fg (zl_n zl_0) ?_
      exact hj17 _ _ _ (by omega) (by omega) hm
    · have hm := if_e1 hm c
      refine zQ.fg (zl_n zl_0) ?_
      exact hj12  _ _ (by omega) (by omega) hm

def m_isAlone_j17 (s0 : Int32) : Option Int32 :=
  gd (b01 s0) <|
  some s0
def m_isAlone_j12  : Option Int32 :=
  m_isAlone_j17 (1 : Int32)
def m_isAlone (a1 : Int32) : Option Int32 :=
  if a1 = (19 : Int32) then
    m_isAlone_j12 
  else
    if a1 = (21 : Int32) then
      m_isAlone_j12 
    else
      m_isAlone_j17 (0 : Int32)

set_option maxHeartbeats 40000000 in
theorem M_isAlone (G : zG) (a1 : Int32) (R : Int32) (hm : m_isAlone a1 = some R) : zSi G yX3_isAlone cX3_isAlone 1 (some .boolean) 0 [.int a1] R := by
  intro h0
  refine zCo.st [some (.int a1)] rfl rfl (by simp only [zarg_r, zarg_i, zarg_l, zarg_0]; rfl) (fun X o f0 hin hw0 => ?_)
  have f := f0.e
  refine (?_ : zQ (fun h => h = h0) G X 0 0 0 [some (.int a1)] []) h0 rfl hw0
  have hR9 : R = R := rfl
  have hj17 : ∀ (s0 : Int32) (cl sl : Nat), cl + (0) ≤ 0 → sl + (0) ≤ 0 → m_isAlone_j17 s0 = some R → zQ (fun h => h = h0) G X cl sl 17 [none] [.int s0] := by
    intro s0 cl sl hc hs hm
    unfold m_isAlone_j17 at hm
    obtain ⟨g1, hm⟩ := gd_e hm
    refine zQ_reti o f dX3_isAlone_17 (b01_e g1).1 (by omega) (by omega) (so_e hm)
  have hj12 : ∀  (cl sl : Nat), cl + (0) ≤ 0 → sl + (0) ≤ 0 → m_isAlone_j12  = some R → zQ (fun h => h = h0) G X cl sl 12 [none] [] := by
    intro  cl sl hc hs hm
    unfold m_isAlone_j12 at hm
    refine zQ.s (fun h => zs_iconst (v := 1) o dX3_isAlone_12 (by decide)) ?_
    refine zQ.s (fun h => zs_goto (tgt := 17) o dX3_isAlone_13 (by decide)) ?_
    exact hj17 _ _ _ (by omega) (by omega) hm
  unfold m_isAlone at hm
  refine zQ.s (fun h => zs_iload_n (i := 0) o dX3_isAlone_0 rfl rfl) ?_
  refine zQ.s (fun h => zs_bipush (v := 19) o dX3_isAlone_1 (by decide)) ?_
  refine zQ.b (fun h => zs_icmp_eq (tgt := 12) o dX3_isAlone_3 (by decide)) (fun c => ?_) (fun c => ?_)
  · have hm := if_e1 hm c
    refine zQ.fg (zl_n zl_0) ?_
    exact hj12  _ _ (by omega) (by omega) hm
  · have hm := if_e2 hm c
    refine zQ.s (fun h => zs_iload_n (i := 0) o dX3_isAlone_6 rfl rfl) ?_
    refine zQ.s (fun h => zs_bipush (v := 21) o dX3_isAlone_7 (by decide)) ?_
    refine zQ.b (fun h => zs_icmp_ne (tgt := 16) o dX3_isAlone_9 (by decide)) (fun c => ?_) (fun c => ?_)
    · have hm := if_e2 hm c
      refine zQ.s (fun h => zs_iconst (v := 0) o dX3_isAlone_16 (by decide)) ?_
      refine zQ.fg (zl_n zl_0) ?_
      exact hj17 _ _ _ (by omega) (by omega) hm
    · have hm := if_e1 hm c
      refine zQ.fg (zl_n zl_0) ?_
      exact hj12  _ _ (by omega) (by omega) hm

def m_isAddress (a1 : Int32) : Option Int32 :=
  bd (m_in a1 (0 : Int32) (63 : Int32)) fun y1 =>
  gd (b01 y1) <|
  some y1

set_option maxHeartbeats 40000000 in
theorem M_isAddress (G : zG) (a1 : Int32) (R : Int32) (hm : m_isAddress a1 = some R) : zSi G yX3_isAddress cX3_isAddress 1 (some .boolean) 1 [.int a1] R := by
  intro h0
  refine zCo.st [some (.int a1)] rfl rfl (by simp only [zarg_r, zarg_i, zarg_l, zarg_0]; rfl) (fun X o f0 hin hw0 => ?_)
  have f := f0.e
  refine (?_ : zQ (fun h => h = h0) G X 0 0 0 [some (.int a1)] []) h0 rfl hw0
  have hR9 : R = R := rfl
  unfold m_isAddress at hm
  refine zQ.s (fun h => zs_iload_n (i := 0) o dX3_isAddress_0 rfl rfl) ?_
  refine zQ.s (fun h => zs_iconst (v := 0) o dX3_isAddress_1 (by decide)) ?_
  refine zQ.s (fun h => zs_bipush (v := 63) o dX3_isAddress_2 (by decide)) ?_
  obtain ⟨y1, c_y1, hm⟩ := bd_e hm
  refine zQ_Si o ml_X3_129 (M_in G _ _ _ _ c_y1) dX3_isAddress_4 rfl rfl rfl rfl (by omega) (by omega) ?_
  obtain ⟨g2, hm⟩ := gd_e hm
  refine zQ_reti o f dX3_isAddress_7 (b01_e g2).1 (by omega) (by omega) (so_e hm)

def m_reason (a1 : Int32) : Option Int32 :=
  if a1 = (98 : Int32) then
    some (6 : Int32)
  else
  if a1 = (100 : Int32) then
    some (7 : Int32)
  else
  if a1 = (102 : Int32) then
    some (2 : Int32)
  else
  if a1 = (105 : Int32) then
    some (0 : Int32)
  else
  if a1 = (109 : Int32) then
    some (5 : Int32)
  else
  if a1 = (113 : Int32) then
    some (3 : Int32)
  else
  if a1 = (116 : Int32) then
    some (1 : Int32)
  else
  if a1 = (120 : Int32) then
    some (4 : Int32)
  else
  some (-1 : Int32)

set_option maxHeartbeats 40000000 in
theorem M_reason (G : zG) (a1 : Int32) (R : Int32) (hm : m_reason a1 = some R) : zSi G yX3_reason cX3_reason 1 (some .int) 0 [.int a1] R := by
  intro h0
  refine zCo.st [some (.int a1)] rfl rfl (by simp only [zarg_r, zarg_i, zarg_l, zarg_0]; rfl) (fun X o f0 hin hw0 => ?_)
  have f := f0.e
  refine (?_ : zQ (fun h => h = h0) G X 0 0 0 [some (.int a1)] []) h0 rfl hw0
  have hR9 : R = R := rfl
  unfold m_reason at hm
  refine zQ.s (fun h => zs_iload_n (i := 0) o dX3_reason_0 rfl rfl) ?_
  by_cases c98 : a1 = (98 : Int32)
  · have hm := if_e1 hm c98
    refine zQ.s (fun h => zs_table (off := 119) (tgt := 120) o dX3_reason_1 rfl (by decide) (ts_at c98 (by decide)) (by decide)) ?_
    refine zQ.s (fun h => zs_bipush (v := 6) o dX3_reason_120 (by decide)) ?_
    refine zQ_reti o f dX3_reason_122 rfl (by omega) (by omega) (so_e hm)
  have hm := if_e2 hm c98
  by_cases c100 : a1 = (100 : Int32)
  · have hm := if_e1 hm c100
    refine zQ.s (fun h => zs_table (off := 122) (tgt := 123) o dX3_reason_1 rfl (by decide) (ts_at c100 (by decide)) (by decide)) ?_
    refine zQ.s (fun h => zs_bipush (v := 7) o dX3_reason_123 (by decide)) ?_
    refine zQ_reti o f dX3_reason_125 rfl (by omega) (by omega) (so_e hm)
  have hm := if_e2 hm c100
  by_cases c102 : a1 = (102 : Int32)
  · have hm := if_e1 hm c102
    refine zQ.s (fun h => zs_table (off := 111) (tgt := 112) o dX3_reason_1 rfl (by decide) (ts_at c102 (by decide)) (by decide)) ?_
    refine zQ.s (fun h => zs_iconst (v := 2) o dX3_reason_112 (by decide)) ?_
    refine zQ_reti o f dX3_reason_113 rfl (by omega) (by omega) (so_e hm)
  have hm := if_e2 hm c102
  by_cases c105 : a1 = (105 : Int32)
  · have hm := if_e1 hm c105
    refine zQ.s (fun h => zs_table (off := 107) (tgt := 108) o dX3_reason_1 rfl (by decide) (ts_at c105 (by decide)) (by decide)) ?_
    refine zQ.s (fun h => zs_iconst (v := 0) o dX3_reason_108 (by decide)) ?_
    refine zQ_reti o f dX3_reason_109 rfl (by omega) (by omega) (so_e hm)
  have hm := if_e2 hm c105
  by_cases c109 : a1 = (109 : Int32)
  · have hm := if_e1 hm c109
    refine zQ.s (fun h => zs_table (off := 117) (tgt := 118) o dX3_reason_1 rfl (by decide) (ts_at c109 (by decide)) (by decide)) ?_
    refine zQ.s (fun h => zs_iconst (v := 5) o dX3_reason_118 (by decide)) ?_
    refine zQ_reti o f dX3_reason_119 rfl (by omega) (by omega) (so_e hm)
  have hm := if_e2 hm c109
  by_cases c113 : a1 = (113 : Int32)
  · have hm := if_e1 hm c113
    refine zQ.s (fun h => zs_table (off := 113) (tgt := 114) o dX3_reason_1 rfl (by decide) (ts_at c113 (by decide)) (by decide)) ?_
    refine zQ.s (fun h => zs_iconst (v := 3) o dX3_reason_114 (by decide)) ?_
    refine zQ_reti o f dX3_reason_115 rfl (by omega) (by omega) (so_e hm)
  have hm := if_e2 hm c113
  by_cases c116 : a1 = (116 : Int32)
  · have hm := if_e1 hm c116
    refine zQ.s (fun h => zs_table (off := 109) (tgt := 110) o dX3_reason_1 rfl (by decide) (ts_at c116 (by decide)) (by decide)) ?_
    refine zQ.s (fun h => zs_iconst (v := 1) o dX3_reason_110 (by decide)) ?_
    refine zQ_reti o f dX3_reason_111 rfl (by omega) (by omega) (so_e hm)
  have hm := if_e2 hm c116
  by_cases c120 : a1 = (120 : Int32)
  · have hm := if_e1 hm c120
    refine zQ.s (fun h => zs_table (off := 115) (tgt := 116) o dX3_reason_1 rfl (by decide) (ts_at c120 (by decide)) (by decide)) ?_
    refine zQ.s (fun h => zs_iconst (v := 4) o dX3_reason_116 (by decide)) ?_
    refine zQ_reti o f dX3_reason_117 rfl (by omega) (by omega) (so_e hm)
  have hm := if_e2 hm c120
  refine zQ.s (fun h => zs_table (off := 125) (tgt := 126) o dX3_reason_1 rfl (by decide) (tsw_c (ts_ne (v := 98) (by decide) c98) (tsw_s (tsw_c (ts_ne (v := 100) (by decide) c100) (tsw_s (tsw_c (ts_ne (v := 102) (by decide) c102) (tsw_s (tsw_s (tsw_c (ts_ne (v := 105) (by decide) c105) (tsw_s (tsw_s (tsw_s (tsw_c (ts_ne (v := 109) (by decide) c109) (tsw_s (tsw_s (tsw_s (tsw_c (ts_ne (v := 113) (by decide) c113) (tsw_s (tsw_s (tsw_c (ts_ne (v := 116) (by decide) c116) (tsw_s (tsw_s (tsw_s (tsw_c (ts_ne (v := 120) (by decide) c120) (tsw_z)))))))))))))))))))))))) (by decide)) ?_
  refine zQ.s (fun h => zs_iconst (v := -1) o dX3_reason_126 (by decide)) ?_
  refine zQ_reti o f dX3_reason_127 rfl (by omega) (by omega) (so_e hm)

def m_thrown (S : MS) : Option (MS × Int32) :=
  some (S, mS S 54)

set_option maxHeartbeats 40000000 in
theorem M_thrown (G : zG) (p : Nat) (g : MG) (q n : Nat) (S : MS) (V : Int32) (S9 : MS) (hm : m_thrown S = some (S9, V)) : zMi G yX3_thrown cX3_thrown 1 (some .int) 0 0 0 p g q n [] S V S9 := by
  intro h0 h hI0
  refine zCo.st [some (zrf p)] rfl rfl (by simp only [zarg_r, zarg_i, zarg_l, zarg_0]; rfl) (fun X o f0 hin hw0 => ?_)
  have f := f0.e
  refine (?_ : zQ (IM h0 p g q n S) G X 0 0 0 [some (zrf p)] []) h hI0 hw0
  clear hI0 hw0
  generalize hR9 : ((S9, V) : (MS × Int32)) = R at hm
  unfold m_thrown at hm
  refine zQ.s (fun h => zs_aload_n (i := 0) o dX3_thrown_0 rfl rfl) ?_
  refine zm_getI o fl_X3_123_3 rfl dX3_thrown_1 ?_
  refine zm_reti o f dX3_thrown_4 rfl (by omega) (by omega) ((so_e hm).trans hR9.symm)

def m_raises (S : MS) (a1 : Int32) : Option (MS × Int32) :=
  lt (tS S 54 a1) fun S1 =>
  some (S1, (0 : Int32))

set_option maxHeartbeats 40000000 in
theorem M_raises (G : zG) (p : Nat) (g : MG) (q n : Nat) (S : MS) (a1 : Int32) (V : Int32) (S9 : MS) (hm : m_raises S a1 = some (S9, V)) : zMi G yX3_raises cX3_raises 2 (some .int) 0 0 0 p g q n [.int a1] S V S9 := by
  intro h0 h hI0
  refine zCo.st [some (zrf p), some (.int a1)] rfl rfl (by simp only [zarg_r, zarg_i, zarg_l, zarg_0]; rfl) (fun X o f0 hin hw0 => ?_)
  have f := f0.e
  refine (?_ : zQ (IM h0 p g q n S) G X 0 0 0 [some (zrf p), some (.int a1)] []) h hI0 hw0
  clear hI0 hw0
  generalize hR9 : ((S9, V) : (MS × Int32)) = R at hm
  unfold m_raises at hm
  refine zQ.s (fun h => zs_aload_n (i := 0) o dX3_raises_0 rfl rfl) ?_
  refine zQ.s (fun h => zs_iload_n (i := 1) o dX3_raises_1 rfl rfl) ?_
  obtain ⟨S1, e_S1, hm⟩ := lt_e hm
  refine zm_putI o fl_X3_123_3 rfl rfl ⟨rfl, rfl⟩ dX3_raises_2 e_S1 ?_
  refine zQ.s (fun h => zs_iconst (v := 0) o dX3_raises_5 (by decide)) ?_
  refine zm_reti o f dX3_raises_6 rfl (by omega) (by omega) ((so_e hm).trans hR9.symm)

def m_laysFree_b13 (k13 : MS → Int32 → Option MS) (S : MS) (x1 : Int32) : Option MS :=
  if (mS S 21) ≤ x1 then
    some S
  else
    gd (inb x1 24) <|
    lt (tA S 20 (ix x1) ((8 : Int32) + x1)) fun S2 =>
    k13 S2 (x1 + (1 : Int32))
def m_laysFree_l13 : Nat → MS → Int32 → Option MS
  | 0 => fun _ _ => none
  | n + 1 => m_laysFree_b13 (m_laysFree_l13 n)
def m_laysFree (S : MS) : Option MS :=
  lt (tS S 21 ((mS S 9) - (8 : Int32))) fun S1 =>
  m_laysFree_l13 100 S1 (0 : Int32)

set_option maxHeartbeats 40000000 in
theorem M_laysFree (G : zG) (p : Nat) (g : MG) (q n : Nat) (S : MS) (S9 : MS) (hm : m_laysFree S = some S9) : zMv G yX3_laysFree cX3_laysFree 2 none 0 0 0 p g q n [] S S9 := by
  intro h0 h hI0
  refine zCo.st [some (zrf p), none] rfl rfl (by simp only [zarg_r, zarg_i, zarg_l, zarg_0]; rfl) (fun X o f0 hin hw0 => ?_)
  have f := f0.e
  refine (?_ : zQ (IM h0 p g q n S) G X 0 0 0 [some (zrf p), none] []) h hI0 hw0
  clear hI0 hw0
  generalize hR9 : (S9 : MS) = R at hm
  have hl13 : ∀ (n13 : Nat), n13 ≤ 100 → ∀ (S : MS) (x1 : Int32) (cl sl : Nat), cl + (0) ≤ 0 → sl + (0) ≤ 0 → m_laysFree_l13 n13 S x1 = some R → zQ (IM h0 p g q n S) G X cl sl 13 [some (zrf p), some (.int x1)] [] := by
    intro n13
    induction n13 with
    | zero => intro _ S x1 cl sl _ _ hm; exact no_e hm
    | succ n13 ih =>
      intro hf13
      have ih13 := ih (by omega)
      intro S x1 cl sl hc hs hm
      have hm : m_laysFree_b13 (m_laysFree_l13 n13) S x1 = some R := hm
      unfold m_laysFree_b13 at hm
      refine zQ.s (fun h => zs_iload_n (i := 1) o dX3_laysFree_13 rfl rfl) ?_
      refine zQ.s (fun h => zs_aload_n (i := 0) o dX3_laysFree_14 rfl rfl) ?_
      refine zm_getI o fl_X3_126_3 rfl dX3_laysFree_15 ?_
      refine zQ.b (fun h => zs_icmp_ge (tgt := 37) o dX3_laysFree_18 (by decide)) (fun c => ?_) (fun c => ?_)
      · have hm := if_e1 hm c
        refine zm_retv o f dX3_laysFree_37 (by omega) (by omega) ((so_e hm).trans hR9.symm)
      · have hm := if_e2 hm c
        refine zQ.s (fun h => zs_aload_n (i := 0) o dX3_laysFree_21 rfl rfl) ?_
        refine zm_getR o fl_X3_69_3 rfl dX3_laysFree_22 ?_
        refine zQ.s (fun h => zs_iload_n (i := 1) o dX3_laysFree_25 rfl rfl) ?_
        refine zQ.s (fun h => zs_bipush (v := 8) o dX3_laysFree_26 (by decide)) ?_
        refine zQ.s (fun h => zs_iload_n (i := 1) o dX3_laysFree_28 rfl rfl) ?_
        refine zQ.s (fun h => zs_iadd o dX3_laysFree_29) ?_
        obtain ⟨g1, hm⟩ := gd_e hm
        obtain ⟨S2, e_S2, hm⟩ := lt_e hm
        refine zm_iast o rfl dX3_laysFree_30 g1 e_S2 ?_
        refine zQ.s (fun h => zs_iinc (i := 1) (v := x1 + (1 : Int32)) o dX3_laysFree_31 rfl rfl (by decide) (Or.inr (zc2_ref rfl)) (by simp only [List.set_cons_succ, List.set_cons_zero]; rfl)) ?_
        refine zQ.s (fun h => zs_goto (tgt := 13) o dX3_laysFree_34 (by decide)) ?_
        exact ih13 _ _ _ _ (by omega) (by omega) hm
  unfold m_laysFree at hm
  refine zQ.s (fun h => zs_aload_n (i := 0) o dX3_laysFree_0 rfl rfl) ?_
  refine zQ.s (fun h => zs_aload_n (i := 0) o dX3_laysFree_1 rfl rfl) ?_
  refine zm_getI o fl_X3_35_3 rfl dX3_laysFree_2 ?_
  refine zQ.s (fun h => zs_bipush (v := 8) o dX3_laysFree_5 (by decide)) ?_
  refine zQ.s (fun h => zs_isub o dX3_laysFree_7) ?_
  obtain ⟨S1, e_S1, hm⟩ := lt_e hm
  refine zm_putI o fl_X3_126_3 rfl rfl ⟨rfl, rfl⟩ dX3_laysFree_8 e_S1 ?_
  refine zQ.s (fun h => zs_iconst (v := 0) o dX3_laysFree_11 (by decide)) ?_
  refine zQ.s (fun h => zs_istore_n (i := 1) o dX3_laysFree_12 rfl (by decide) (Or.inr (zc2_ref rfl)) (by simp only [List.set_cons_succ, List.set_cons_zero]; rfl)) ?_
  exact hl13 100 (Nat.le_refl _) _ _ _ _ (by omega) (by omega) hm

def m_add_j101 (S : MS) (x1 : Int32) (x2 : Int32) (x3 : Int32) (x4 : Int32) (x5 : Int32) (s1 : Int32) : Option (MS × Int32) :=
  lt (tS S 54 s1) fun S1 =>
  if (mS S1 54) ≤ (0 : Int32) then
    gd (inb (mS S1 5) 64) <|
    lt (tA S1 0 (ix (mS S1 5)) x1) fun S3 =>
    gd (inb (mS S3 5) 64) <|
    lt (tA S3 1 (ix (mS S3 5)) x2) fun S5 =>
    gd (inb (mS S5 5) 64) <|
    lt (tA S5 2 (ix (mS S5 5)) x3) fun S7 =>
    gd (inb (mS S7 5) 64) <|
    lt (tA S7 3 (ix (mS S7 5)) x4) fun S9 =>
    gd (inb (mS S9 5) 64) <|
    lt (tA S9 4 (ix (mS S9 5)) x5) fun S11 =>
    lt (tS S11 5 ((mS S11 5) + (1 : Int32))) fun S12 =>
    some (S12, (mS S12 5) - (1 : Int32))
  else
    some (S1, (0 : Int32))
def m_add_j96 (S : MS) (x1 : Int32) (x2 : Int32) (x3 : Int32) (x4 : Int32) (x5 : Int32) : Option (MS × Int32) :=
  m_add_j101 S x1 x2 x3 x4 x5 (2 : Int32)
def m_add_j68 (S : MS) (x1 : Int32) (x2 : Int32) (x3 : Int32) (x4 : Int32) (x5 : Int32) (s0 : Int32) : Option (MS × Int32) :=
  if s0 = (0 : Int32) then
    m_add_j101 S x1 x2 x3 x4 x5 (1 : Int32)
  else
    if (0 : Int32) < (mS S 36) then
      m_add_j96 S x1 x2 x3 x4 x5
    else
      if (mS S 5) = (64 : Int32) then
        m_add_j96 S x1 x2 x3 x4 x5
      else
        m_add_j101 S x1 x2 x3 x4 x5 (0 : Int32)
def m_add_j63 (S : MS) (x1 : Int32) (x2 : Int32) (x3 : Int32) (x4 : Int32) (x5 : Int32) : Option (MS × Int32) :=
  m_add_j68 S x1 x2 x3 x4 x5 (1 : Int32)
def m_add_j67 (S : MS) (x1 : Int32) (x2 : Int32) (x3 : Int32) (x4 : Int32) (x5 : Int32) : Option (MS × Int32) :=
  m_add_j68 S x1 x2 x3 x4 x5 (0 : Int32)
def m_add (S : MS) (a1 : Int32) (a2 : Int32) (a3 : Int32) (a4 : Int32) (a5 : Int32) : Option (MS × Int32) :=
  bd (m_in a1 (0 : Int32) (21 : Int32)) fun y1 =>
  if y1 = (0 : Int32) then
    m_add_j67 S a1 a2 a3 a4 a5
  else
    bd (m_in a2 (0 : Int32) (7 : Int32)) fun y2 =>
    if y2 = (0 : Int32) then
      m_add_j67 S a1 a2 a3 a4 a5
    else
      bd (m_in a3 (0 : Int32) (7 : Int32)) fun y3 =>
      if y3 = (0 : Int32) then
        m_add_j67 S a1 a2 a3 a4 a5
      else
        bd (m_in a4 (0 : Int32) (7 : Int32)) fun y4 =>
        if y4 = (0 : Int32) then
          m_add_j67 S a1 a2 a3 a4 a5
        else
          bd (m_in a1 (12 : Int32) (15 : Int32)) fun y5 =>
          if y5 = (0 : Int32) then
            m_add_j63 S a1 a2 a3 a4 a5
          else
            bd (m_in a5 (0 : Int32) (63 : Int32)) fun y6 =>
            if y6 = (0 : Int32) then
              m_add_j67 S a1 a2 a3 a4 a5
            else
              m_add_j63 S a1 a2 a3 a4 a5

set_option maxHeartbeats 40000000 in
theorem M_add (G : zG) (p : Nat) (g : MG) (q n : Nat) (S : MS) (a1 : Int32) (a2 : Int32) (a3 : Int32) (a4 : Int32) (a5 : Int32) (V : Int32) (S9 : MS) (hm : m_add S a1 a2 a3 a4 a5 = some (S9, V)) : zMi G yX3_add cX3_add 7 (some .int) 1 0 0 p g q n [.int a1, .int a2, .int a3, .int a4, .int a5] S V S9 := by
  intro h0 h hI0
  refine zCo.st [some (zrf p), some (.int a1), some (.int a2), some (.int a3), some (.int a4), some (.int a5), none] rfl rfl (by simp only [zarg_r, zarg_i, zarg_l, zarg_0]; rfl) (fun X o f0 hin hw0 => ?_)
  have f := f0.e
  refine (?_ : zQ (IM h0 p g q n S) G X 0 0 0 [some (zrf p), some (.int a1), some (.int a2), some (.int a3), some (.int a4), some (.int a5), none] []) h hI0 hw0
  clear hI0 hw0
  generalize hR9 : ((S9, V) : (MS × Int32)) = R at hm
  have hj101 : ∀ (S : MS) (x1 : Int32) (x2 : Int32) (x3 : Int32) (x4 : Int32) (x5 : Int32) (s1 : Int32) (cl sl : Nat), cl + (0) ≤ 0 → sl + (0) ≤ 0 → m_add_j101 S x1 x2 x3 x4 x5 s1 = some R → zQ (IM h0 p g q n S) G X cl sl 101 [some (zrf p), some (.int x1), some (.int x2), some (.int x3), some (.int x4), some (.int x5), none] [.int s1, zrf p] := by
    intro S x1 x2 x3 x4 x5 s1 cl sl hc hs hm
    unfold m_add_j101 at hm
    obtain ⟨S1, e_S1, hm⟩ := lt_e hm
    refine zm_putI o fl_X3_123_3 rfl rfl ⟨rfl, rfl⟩ dX3_add_101 e_S1 ?_
    refine zQ.s (fun h => zs_aload_n (i := 0) o dX3_add_104 rfl rfl) ?_
    refine zm_getI o fl_X3_123_3 rfl dX3_add_105 ?_
    refine zQ.b (fun h => zs_if_le (tgt := 113) o dX3_add_108 (by decide)) (fun c => ?_) (fun c => ?_)
    · have hm := if_e1 hm c
      refine zQ.s (fun h => zs_aload_n (i := 0) o dX3_add_113 rfl rfl) ?_
      refine zm_getR o fl_X3_9_3 rfl dX3_add_114 ?_
      refine zQ.s (fun h => zs_aload_n (i := 0) o dX3_add_117 rfl rfl) ?_
      refine zm_getI o fl_X3_136_3 rfl dX3_add_118 ?_
      refine zQ.s (fun h => zs_iload_n (i := 1) o dX3_add_121 rfl rfl) ?_
      obtain ⟨g2, hm⟩ := gd_e hm
      obtain ⟨S3, e_S3, hm⟩ := lt_e hm
      refine zm_iast o rfl dX3_add_122 g2 e_S3 ?_
      refine zQ.s (fun h => zs_aload_n (i := 0) o dX3_add_123 rfl rfl) ?_
      refine zm_getR o fl_X3_13_3 rfl dX3_add_124 ?_
      refine zQ.s (fun h => zs_aload_n (i := 0) o dX3_add_127 rfl rfl) ?_
      refine zm_getI o fl_X3_136_3 rfl dX3_add_128 ?_
      refine zQ.s (fun h => zs_iload_n (i := 2) o dX3_add_131 rfl rfl) ?_
      obtain ⟨g4, hm⟩ := gd_e hm
      obtain ⟨S5, e_S5, hm⟩ := lt_e hm
      refine zm_iast o rfl dX3_add_132 g4 e_S5 ?_
      refine zQ.s (fun h => zs_aload_n (i := 0) o dX3_add_133 rfl rfl) ?_
      refine zm_getR o fl_X3_16_3 rfl dX3_add_134 ?_
      refine zQ.s (fun h => zs_aload_n (i := 0) o dX3_add_137 rfl rfl) ?_
      refine zm_getI o fl_X3_136_3 rfl dX3_add_138 ?_
      refine zQ.s (fun h => zs_iload_n (i := 3) o dX3_add_141 rfl rfl) ?_
      obtain ⟨g6, hm⟩ := gd_e hm
      obtain ⟨S7, e_S7, hm⟩ := lt_e hm
      refine zm_iast o rfl dX3_add_142 g6 e_S7 ?_
      refine zQ.s (fun h => zs_aload_n (i := 0) o dX3_add_143 rfl rfl) ?_
      refine zm_getR o fl_X3_19_3 rfl dX3_add_144 ?_
      refine zQ.s (fun h => zs_aload_n (i := 0) o dX3_add_147 rfl rfl) ?_
      refine zm_getI o fl_X3_136_3 rfl dX3_add_148 ?_
      refine zQ.s (fun h => zs_iload (i := 4) o dX3_add_151 rfl) ?_
      obtain ⟨g8, hm⟩ := gd_e hm
      obtain ⟨S9, e_S9, hm⟩ := lt_e hm
      refine zm_iast o rfl dX3_add_153 g8 e_S9 ?_
      refine zQ.s (fun h => zs_aload_n (i := 0) o dX3_add_154 rfl rfl) ?_
      refine zm_getR o fl_X3_22_3 rfl dX3_add_155 ?_
      refine zQ.s (fun h => zs_aload_n (i := 0) o dX3_add_158 rfl rfl) ?_
      refine zm_getI o fl_X3_136_3 rfl dX3_add_159 ?_
      refine zQ.s (fun h => zs_iload (i := 5) o dX3_add_162 rfl) ?_
      obtain ⟨g10, hm⟩ := gd_e hm
      obtain ⟨S11, e_S11, hm⟩ := lt_e hm
      refine zm_iast o rfl dX3_add_164 g10 e_S11 ?_
      refine zQ.s (fun h => zs_aload_n (i := 0) o dX3_add_165 rfl rfl) ?_
      refine zQ.s (fun h => zs_dup o dX3_add_166 (by first | rfl | exact zrf_cat _)) ?_
      refine zm_getI o fl_X3_136_3 rfl dX3_add_167 ?_
      refine zQ.s (fun h => zs_iconst (v := 1) o dX3_add_170 (by decide)) ?_
      refine zQ.s (fun h => zs_iadd o dX3_add_171) ?_
      obtain ⟨S12, e_S12, hm⟩ := lt_e hm
      refine zm_putI o fl_X3_136_3 rfl rfl ⟨rfl, rfl⟩ dX3_add_172 e_S12 ?_
      refine zQ.s (fun h => zs_aload_n (i := 0) o dX3_add_175 rfl rfl) ?_
      refine zm_getI o fl_X3_136_3 rfl dX3_add_176 ?_
      refine zQ.s (fun h => zs_iconst (v := 1) o dX3_add_179 (by decide)) ?_
      refine zQ.s (fun h => zs_isub o dX3_add_180) ?_
      refine zm_reti o f dX3_add_181 rfl (by omega) (by omega) ((so_e hm).trans hR9.symm)
    · have hm := if_e2 hm c
      refine zQ.s (fun h => zs_iconst (v := 0) o dX3_add_111 (by decide)) ?_
      refine zm_reti o f dX3_add_112 rfl (by omega) (by omega) ((so_e hm).trans hR9.symm)
  have hj96 : ∀ (S : MS) (x1 : Int32) (x2 : Int32) (x3 : Int32) (x4 : Int32) (x5 : Int32) (cl sl : Nat), cl + (0) ≤ 0 → sl + (0) ≤ 0 → m_add_j96 S x1 x2 x3 x4 x5 = some R → zQ (IM h0 p g q n S) G X cl sl 96 [some (zrf p), some (.int x1), some (.int x2), some (.int x3), some (.int x4), some (.int x5), none] [zrf p] := by
    intro S x1 x2 x3 x4 x5 cl sl hc hs hm
    unfold m_add_j96 at hm
    refine zQ.s (fun h => zs_iconst (v := 2) o dX3_add_96 (by decide)) ?_
    refine zQ.s (fun h => zs_goto (tgt := 101) o dX3_add_97 (by decide)) ?_
    exact hj101 _ _ _ _ _ _ _ _ _ (by omega) (by omega) hm
  have hj68 : ∀ (S : MS) (x1 : Int32) (x2 : Int32) (x3 : Int32) (x4 : Int32) (x5 : Int32) (s0 : Int32) (cl sl : Nat), cl + (0) ≤ 0 → sl + (0) ≤ 0 → m_add_j68 S x1 x2 x3 x4 x5 s0 = some R → zQ (IM h0 p g q n S) G X cl sl 68 [some (zrf p), some (.int x1), some (.int x2), some (.int x3), some (.int x4), some (.int x5), none] [.int s0] := by
    intro S x1 x2 x3 x4 x5 s0 cl sl hc hs hm
    unfold m_add_j68 at hm
    refine zQ.s (fun h => zs_istore (i := 6) o dX3_add_68 (by decide) (Or.inr rfl) (by simp only [List.set_cons_succ, List.set_cons_zero]; rfl)) ?_
    refine zQ.s (fun h => zs_aload_n (i := 0) o dX3_add_70 rfl rfl) ?_
    refine zQ.s (fun h => zs_iload (i := 6) o dX3_add_71 rfl) ?_
    refine zQ.b (fun h => zs_if_ne (tgt := 80) o dX3_add_73 (by decide)) (fun c => ?_) (fun c => ?_)
    · have hm := if_e2 hm c
      refine zQ.s (fun h => zs_aload_n (i := 0) o dX3_add_80 rfl rfl) ?_
      refine zm_getI o fl_X3_133_3 rfl dX3_add_81 ?_
      refine zQ.b (fun h => zs_if_gt (tgt := 96) o dX3_add_84 (by decide)) (fun c => ?_) (fun c => ?_)
      · have hm := if_e1 hm c
        refine zQ.fg (zl_s (zl_s (zl_s (zl_s (zl_s (zl_s (zl_n zl_0))))))) ?_
        exact hj96 _ _ _ _ _ _ _ _ (by omega) (by omega) hm
      · have hm := if_e2 hm c
        refine zQ.s (fun h => zs_aload_n (i := 0) o dX3_add_87 rfl rfl) ?_
        refine zm_getI o fl_X3_136_3 rfl dX3_add_88 ?_
        refine zQ.s (fun h => zs_bipush (v := 64) o dX3_add_91 (by decide)) ?_
        refine zQ.b (fun h => zs_icmp_ne (tgt := 100) o dX3_add_93 (by decide)) (fun c => ?_) (fun c => ?_)
        · have hm := if_e2 hm c
          refine zQ.s (fun h => zs_iconst (v := 0) o dX3_add_100 (by decide)) ?_
          refine zQ.fg (zl_s (zl_s (zl_s (zl_s (zl_s (zl_s (zl_n zl_0))))))) ?_
          exact hj101 _ _ _ _ _ _ _ _ _ (by omega) (by omega) hm
        · have hm := if_e1 hm c
          refine zQ.fg (zl_s (zl_s (zl_s (zl_s (zl_s (zl_s (zl_n zl_0))))))) ?_
          exact hj96 _ _ _ _ _ _ _ _ (by omega) (by omega) hm
    · have hm := if_e1 hm c
      refine zQ.s (fun h => zs_iconst (v := 1) o dX3_add_76 (by decide)) ?_
      refine zQ.s (fun h => zs_goto (tgt := 101) o dX3_add_77 (by decide)) ?_
      refine zQ.fg (zl_s (zl_s (zl_s (zl_s (zl_s (zl_s (zl_n zl_0))))))) ?_
      exact hj101 _ _ _ _ _ _ _ _ _ (by omega) (by omega) hm
  have hj67 : ∀ (S : MS) (x1 : Int32) (x2 : Int32) (x3 : Int32) (x4 : Int32) (x5 : Int32) (cl sl : Nat), cl + (0) ≤ 0 → sl + (0) ≤ 0 → m_add_j67 S x1 x2 x3 x4 x5 = some R → zQ (IM h0 p g q n S) G X cl sl 67 [some (zrf p), some (.int x1), some (.int x2), some (.int x3), some (.int x4), some (.int x5), none] [] := by
    intro S x1 x2 x3 x4 x5 cl sl hc hs hm
    unfold m_add_j67 at hm
    refine zQ.s (fun h => zs_iconst (v := 0) o dX3_add_67 (by decide)) ?_
    exact hj68 _ _ _ _ _ _ _ _ _ (by omega) (by omega) hm
  have hj63 : ∀ (S : MS) (x1 : Int32) (x2 : Int32) (x3 : Int32) (x4 : Int32) (x5 : Int32) (cl sl : Nat), cl + (0) ≤ 0 → sl + (0) ≤ 0 → m_add_j63 S x1 x2 x3 x4 x5 = some R → zQ (IM h0 p g q n S) G X cl sl 63 [some (zrf p), some (.int x1), some (.int x2), some (.int x3), some (.int x4), some (.int x5), none] [] := by
    intro S x1 x2 x3 x4 x5 cl sl hc hs hm
    unfold m_add_j63 at hm
    refine zQ.s (fun h => zs_iconst (v := 1) o dX3_add_63 (by decide)) ?_
    refine zQ.s (fun h => zs_goto (tgt := 68) o dX3_add_64 (by decide)) ?_
    exact hj68 _ _ _ _ _ _ _ _ _ (by omega) (by omega) hm
  unfold m_add at hm
  refine zQ.s (fun h => zs_iload_n (i := 1) o dX3_add_0 rfl rfl) ?_
  refine zQ.s (fun h => zs_iconst (v := 0) o dX3_add_1 (by decide)) ?_
  refine zQ.s (fun h => zs_bipush (v := 21) o dX3_add_2 (by decide)) ?_
  obtain ⟨y1, c_y1, hm⟩ := bd_e hm
  refine zQ_Si o ml_X3_129 (M_in G _ _ _ _ c_y1) dX3_add_4 rfl rfl rfl rfl (by omega) (by omega) ?_
  refine zQ.b (fun h => zs_if_eq (tgt := 67) o dX3_add_7 (by decide)) (fun c => ?_) (fun c => ?_)
  · have hm := if_e1 hm c
    exact hj67 _ _ _ _ _ _ _ _ (by omega) (by omega) hm
  · have hm := if_e2 hm c
    refine zQ.s (fun h => zs_iload_n (i := 2) o dX3_add_10 rfl rfl) ?_
    refine zQ.s (fun h => zs_iconst (v := 0) o dX3_add_11 (by decide)) ?_
    refine zQ.s (fun h => zs_bipush (v := 7) o dX3_add_12 (by decide)) ?_
    obtain ⟨y2, c_y2, hm⟩ := bd_e hm
    refine zQ_Si o ml_X3_129 (M_in G _ _ _ _ c_y2) dX3_add_14 rfl rfl rfl rfl (by omega) (by omega) ?_
    refine zQ.b (fun h => zs_if_eq (tgt := 67) o dX3_add_17 (by decide)) (fun c => ?_) (fun c => ?_)
    · have hm := if_e1 hm c
      exact hj67 _ _ _ _ _ _ _ _ (by omega) (by omega) hm
    · have hm := if_e2 hm c
      refine zQ.s (fun h => zs_iload_n (i := 3) o dX3_add_20 rfl rfl) ?_
      refine zQ.s (fun h => zs_iconst (v := 0) o dX3_add_21 (by decide)) ?_
      refine zQ.s (fun h => zs_bipush (v := 7) o dX3_add_22 (by decide)) ?_
      obtain ⟨y3, c_y3, hm⟩ := bd_e hm
      refine zQ_Si o ml_X3_129 (M_in G _ _ _ _ c_y3) dX3_add_24 rfl rfl rfl rfl (by omega) (by omega) ?_
      refine zQ.b (fun h => zs_if_eq (tgt := 67) o dX3_add_27 (by decide)) (fun c => ?_) (fun c => ?_)
      · have hm := if_e1 hm c
        exact hj67 _ _ _ _ _ _ _ _ (by omega) (by omega) hm
      · have hm := if_e2 hm c
        refine zQ.s (fun h => zs_iload (i := 4) o dX3_add_30 rfl) ?_
        refine zQ.s (fun h => zs_iconst (v := 0) o dX3_add_32 (by decide)) ?_
        refine zQ.s (fun h => zs_bipush (v := 7) o dX3_add_33 (by decide)) ?_
        obtain ⟨y4, c_y4, hm⟩ := bd_e hm
        refine zQ_Si o ml_X3_129 (M_in G _ _ _ _ c_y4) dX3_add_35 rfl rfl rfl rfl (by omega) (by omega) ?_
        refine zQ.b (fun h => zs_if_eq (tgt := 67) o dX3_add_38 (by decide)) (fun c => ?_) (fun c => ?_)
        · have hm := if_e1 hm c
          exact hj67 _ _ _ _ _ _ _ _ (by omega) (by omega) hm
        · have hm := if_e2 hm c
          refine zQ.s (fun h => zs_iload_n (i := 1) o dX3_add_41 rfl rfl) ?_
          refine zQ.s (fun h => zs_bipush (v := 12) o dX3_add_42 (by decide)) ?_
          refine zQ.s (fun h => zs_bipush (v := 15) o dX3_add_44 (by decide)) ?_
          obtain ⟨y5, c_y5, hm⟩ := bd_e hm
          refine zQ_Si o ml_X3_129 (M_in G _ _ _ _ c_y5) dX3_add_46 rfl rfl rfl rfl (by omega) (by omega) ?_
          refine zQ.b (fun h => zs_if_eq (tgt := 63) o dX3_add_49 (by decide)) (fun c => ?_) (fun c => ?_)
          · have hm := if_e1 hm c
            exact hj63 _ _ _ _ _ _ _ _ (by omega) (by omega) hm
          · have hm := if_e2 hm c
            refine zQ.s (fun h => zs_iload (i := 5) o dX3_add_52 rfl) ?_
            refine zQ.s (fun h => zs_iconst (v := 0) o dX3_add_54 (by decide)) ?_
            refine zQ.s (fun h => zs_bipush (v := 63) o dX3_add_55 (by decide)) ?_
            obtain ⟨y6, c_y6, hm⟩ := bd_e hm
            refine zQ_Si o ml_X3_129 (M_in G _ _ _ _ c_y6) dX3_add_57 rfl rfl rfl rfl (by omega) (by omega) ?_
            refine zQ.b (fun h => zs_if_eq (tgt := 67) o dX3_add_60 (by decide)) (fun c => ?_) (fun c => ?_)
            · have hm := if_e1 hm c
              exact hj67 _ _ _ _ _ _ _ _ (by omega) (by omega) hm
            · have hm := if_e2 hm c
              exact hj63 _ _ _ _ _ _ _ _ (by omega) (by omega) hm

def m_cannot_j36 (S : MS) (s0 : Int32) : Option (MS × Int32) :=
  gd (b01 s0) <|
  some (S, s0)
def m_cannot_j21 (S : MS) (s1 : Int32) : Option (MS × Int32) :=
  lt (tS S 54 s1) fun S1 =>
  if (mS S1 54) ≤ (0 : Int32) then
    m_cannot_j36 S1 (0 : Int32)
  else
    m_cannot_j36 S1 (1 : Int32)
def m_cannot (S : MS) (a1 : Int32) : Option (MS × Int32) :=
  if a1 = (0 : Int32) then
    m_cannot_j21 S (1 : Int32)
  else
    if (mS S 36) ≤ (0 : Int32) then
      m_cannot_j21 S (0 : Int32)
    else
      m_cannot_j21 S (2 : Int32)

set_option maxHeartbeats 40000000 in
theorem M_cannot (G : zG) (p : Nat) (g : MG) (q n : Nat) (S : MS) (a1 : Int32) (V : Int32) (S9 : MS) (hm : m_cannot S a1 = some (S9, V)) : zMi G yX3_cannot cX3_cannot 2 (some .boolean) 0 0 0 p g q n [.int a1] S V S9 := by
  intro h0 h hI0
  refine zCo.st [some (zrf p), some (.int a1)] rfl rfl (by simp only [zarg_r, zarg_i, zarg_l, zarg_0]; rfl) (fun X o f0 hin hw0 => ?_)
  have f := f0.e
  refine (?_ : zQ (IM h0 p g q n S) G X 0 0 0 [some (zrf p), some (.int a1)] []) h hI0 hw0
  clear hI0 hw0
  generalize hR9 : ((S9, V) : (MS × Int32)) = R at hm
  have hj36 : ∀ (S : MS) (s0 : Int32) (cl sl : Nat), cl + (0) ≤ 0 → sl + (0) ≤ 0 → m_cannot_j36 S s0 = some R → zQ (IM h0 p g q n S) G X cl sl 36 [none, none] [.int s0] := by
    intro S s0 cl sl hc hs hm
    unfold m_cannot_j36 at hm
    obtain ⟨g1, hm⟩ := gd_e hm
    refine zm_reti o f dX3_cannot_36 (b01_e g1).1 (by omega) (by omega) ((so_e hm).trans hR9.symm)
  have hj21 : ∀ (S : MS) (s1 : Int32) (cl sl : Nat), cl + (0) ≤ 0 → sl + (0) ≤ 0 → m_cannot_j21 S s1 = some R → zQ (IM h0 p g q n S) G X cl sl 21 [some (zrf p), none] [.int s1, zrf p] := by
    intro S s1 cl sl hc hs hm
    unfold m_cannot_j21 at hm
    obtain ⟨S1, e_S1, hm⟩ := lt_e hm
    refine zm_putI o fl_X3_123_3 rfl rfl ⟨rfl, rfl⟩ dX3_cannot_21 e_S1 ?_
    refine zQ.s (fun h => zs_aload_n (i := 0) o dX3_cannot_24 rfl rfl) ?_
    refine zm_getI o fl_X3_123_3 rfl dX3_cannot_25 ?_
    refine zQ.b (fun h => zs_if_le (tgt := 35) o dX3_cannot_28 (by decide)) (fun c => ?_) (fun c => ?_)
    · have hm := if_e1 hm c
      refine zQ.s (fun h => zs_iconst (v := 0) o dX3_cannot_35 (by decide)) ?_
      refine zQ.fg (zl_n (zl_n zl_0)) ?_
      exact hj36 _ _ _ _ (by omega) (by omega) hm
    · have hm := if_e2 hm c
      refine zQ.s (fun h => zs_iconst (v := 1) o dX3_cannot_31 (by decide)) ?_
      refine zQ.s (fun h => zs_goto (tgt := 36) o dX3_cannot_32 (by decide)) ?_
      refine zQ.fg (zl_n (zl_n zl_0)) ?_
      exact hj36 _ _ _ _ (by omega) (by omega) hm
  unfold m_cannot at hm
  refine zQ.s (fun h => zs_aload_n (i := 0) o dX3_cannot_0 rfl rfl) ?_
  refine zQ.s (fun h => zs_iload_n (i := 1) o dX3_cannot_1 rfl rfl) ?_
  refine zQ.b (fun h => zs_if_ne (tgt := 9) o dX3_cannot_2 (by decide)) (fun c => ?_) (fun c => ?_)
  · have hm := if_e2 hm c
    refine zQ.s (fun h => zs_aload_n (i := 0) o dX3_cannot_9 rfl rfl) ?_
    refine zm_getI o fl_X3_133_3 rfl dX3_cannot_10 ?_
    refine zQ.b (fun h => zs_if_le (tgt := 20) o dX3_cannot_13 (by decide)) (fun c => ?_) (fun c => ?_)
    · have hm := if_e1 hm c
      refine zQ.s (fun h => zs_iconst (v := 0) o dX3_cannot_20 (by decide)) ?_
      refine zQ.fg (zl_s (zl_n zl_0)) ?_
      exact hj21 _ _ _ _ (by omega) (by omega) hm
    · have hm := if_e2 hm c
      refine zQ.s (fun h => zs_iconst (v := 2) o dX3_cannot_16 (by decide)) ?_
      refine zQ.s (fun h => zs_goto (tgt := 21) o dX3_cannot_17 (by decide)) ?_
      refine zQ.fg (zl_s (zl_n zl_0)) ?_
      exact hj21 _ _ _ _ (by omega) (by omega) hm
  · have hm := if_e1 hm c
    refine zQ.s (fun h => zs_iconst (v := 1) o dX3_cannot_5 (by decide)) ?_
    refine zQ.s (fun h => zs_goto (tgt := 21) o dX3_cannot_6 (by decide)) ?_
    refine zQ.fg (zl_s (zl_n zl_0)) ?_
    exact hj21 _ _ _ _ (by omega) (by omega) hm

def m_setRegister (S : MS) (a1 : Int32) (a2 : Int32) : Option (MS × Int32) :=
  bd (m_in a1 (0 : Int32) (7 : Int32)) fun y1 =>
  bd (m_cannot S y1) fun y2 =>
  if y2.2 = (0 : Int32) then
    gd (inb a1 24) <|
    lt (mA y2.1 18 (ix a1)) fun v4 =>
    gd (inb a1 24) <|
    lt (tA y2.1 18 (ix a1) a2) fun S6 =>
    gd (inb a1 8) <|
    lt (tA S6 12 (ix a1) a2) fun S8 =>
    some (S8, v4)
  else
    some (y2.1, (0 : Int32))

set_option maxHeartbeats 40000000 in
theorem M_setRegister (G : zG) (p : Nat) (g : MG) (q n : Nat) (S : MS) (a1 : Int32) (a2 : Int32) (V : Int32) (S9 : MS) (hm : m_setRegister S a1 a2 = some (S9, V)) : zMi G yX3_setRegister cX3_setRegister 4 (some .int) 1 0 0 p g q n [.int a1, .int a2] S V S9 := by
  intro h0 h hI0
  refine zCo.st [some (zrf p), some (.int a1), some (.int a2), none] rfl rfl (by simp only [zarg_r, zarg_i, zarg_l, zarg_0]; rfl) (fun X o f0 hin hw0 => ?_)
  have f := f0.e
  refine (?_ : zQ (IM h0 p g q n S) G X 0 0 0 [some (zrf p), some (.int a1), some (.int a2), none] []) h hI0 hw0
  clear hI0 hw0
  generalize hR9 : ((S9, V) : (MS × Int32)) = R at hm
  unfold m_setRegister at hm
  refine zQ.s (fun h => zs_aload_n (i := 0) o dX3_setRegister_0 rfl rfl) ?_
  refine zQ.s (fun h => zs_iload_n (i := 1) o dX3_setRegister_1 rfl rfl) ?_
  refine zQ.s (fun h => zs_iconst (v := 0) o dX3_setRegister_2 (by decide)) ?_
  refine zQ.s (fun h => zs_bipush (v := 7) o dX3_setRegister_3 (by decide)) ?_
  obtain ⟨y1, c_y1, hm⟩ := bd_e hm
  refine zQ_Si o ml_X3_129 (M_in G _ _ _ _ c_y1) dX3_setRegister_5 rfl rfl rfl rfl (by omega) (by omega) ?_
  obtain ⟨y2, c_y2, hm⟩ := bd_e hm
  refine zm_Vi o ml_X3_139 (M_cannot G p g _ _ _ _ _ _ c_y2) dX3_setRegister_8 rfl rfl rfl rfl (by omega) (by omega) ?_
  refine zQ.b (fun h => zs_if_eq (tgt := 16) o dX3_setRegister_11 (by decide)) (fun c => ?_) (fun c => ?_)
  · have hm := if_e1 hm c
    refine zQ.s (fun h => zs_aload_n (i := 0) o dX3_setRegister_16 rfl rfl) ?_
    refine zm_getR o fl_X3_62_3 rfl dX3_setRegister_17 ?_
    refine zQ.s (fun h => zs_iload_n (i := 1) o dX3_setRegister_20 rfl rfl) ?_
    obtain ⟨g3, hm⟩ := gd_e hm
    refine zm_iald o rfl dX3_setRegister_21 g3 ?_
    obtain ⟨v4, e_v4, hm⟩ := lt_e hm
    refine zQ.nmi e_v4 ?_
    refine zQ.s (fun h => zs_istore_n (i := 3) o dX3_setRegister_22 rfl (by decide) (Or.inr rfl) (by simp only [List.set_cons_succ, List.set_cons_zero]; rfl)) ?_
    refine zQ.s (fun h => zs_aload_n (i := 0) o dX3_setRegister_23 rfl rfl) ?_
    refine zm_getR o fl_X3_62_3 rfl dX3_setRegister_24 ?_
    refine zQ.s (fun h => zs_iload_n (i := 1) o dX3_setRegister_27 rfl rfl) ?_
    refine zQ.s (fun h => zs_iload_n (i := 2) o dX3_setRegister_28 rfl rfl) ?_
    obtain ⟨g5, hm⟩ := gd_e hm
    obtain ⟨S6, e_S6, hm⟩ := lt_e hm
    refine zm_iast o rfl dX3_setRegister_29 g5 e_S6 ?_
    refine zQ.s (fun h => zs_aload_n (i := 0) o dX3_setRegister_30 rfl rfl) ?_
    refine zm_getR o fl_X3_44_3 rfl dX3_setRegister_31 ?_
    refine zQ.s (fun h => zs_iload_n (i := 1) o dX3_setRegister_34 rfl rfl) ?_
    refine zQ.s (fun h => zs_iload_n (i := 2) o dX3_setRegister_35 rfl rfl) ?_
    obtain ⟨g7, hm⟩ := gd_e hm
    obtain ⟨S8, e_S8, hm⟩ := lt_e hm
    refine zm_iast o rfl dX3_setRegister_36 g7 e_S8 ?_
    refine zQ.s (fun h => zs_iload_n (i := 3) o dX3_setRegister_37 rfl rfl) ?_
    refine zm_reti o f dX3_setRegister_38 rfl (by omega) (by omega) ((so_e hm).trans hR9.symm)
  · have hm := if_e2 hm c
    refine zQ.s (fun h => zs_iconst (v := 0) o dX3_setRegister_14 (by decide)) ?_
    refine zm_reti o f dX3_setRegister_15 rfl (by omega) (by omega) ((so_e hm).trans hR9.symm)

def m_setWord (S : MS) (a1 : Int32) (a2 : Int32) : Option (MS × Int32) :=
  bd (m_in a1 (0 : Int32) (63 : Int32)) fun y1 =>
  bd (m_cannot S y1) fun y2 =>
  if y2.2 = (0 : Int32) then
    gd (inb a1 64) <|
    lt (mA y2.1 15 (ix a1)) fun v4 =>
    gd (inb a1 64) <|
    lt (tA y2.1 15 (ix a1) a2) fun S6 =>
    gd (inb a1 64) <|
    lt (tA S6 13 (ix a1) a2) fun S8 =>
    some (S8, v4)
  else
    some (y2.1, (0 : Int32))

set_option maxHeartbeats 40000000 in
theorem M_setWord (G : zG) (p : Nat) (g : MG) (q n : Nat) (S : MS) (a1 : Int32) (a2 : Int32) (V : Int32) (S9 : MS) (hm : m_setWord S a1 a2 = some (S9, V)) : zMi G yX3_setWord cX3_setWord 4 (some .int) 1 0 0 p g q n [.int a1, .int a2] S V S9 := by
  intro h0 h hI0
  refine zCo.st [some (zrf p), some (.int a1), some (.int a2), none] rfl rfl (by simp only [zarg_r, zarg_i, zarg_l, zarg_0]; rfl) (fun X o f0 hin hw0 => ?_)
  have f := f0.e
  refine (?_ : zQ (IM h0 p g q n S) G X 0 0 0 [some (zrf p), some (.int a1), some (.int a2), none] []) h hI0 hw0
  clear hI0 hw0
  generalize hR9 : ((S9, V) : (MS × Int32)) = R at hm
  unfold m_setWord at hm
  refine zQ.s (fun h => zs_aload_n (i := 0) o dX3_setWord_0 rfl rfl) ?_
  refine zQ.s (fun h => zs_iload_n (i := 1) o dX3_setWord_1 rfl rfl) ?_
  refine zQ.s (fun h => zs_iconst (v := 0) o dX3_setWord_2 (by decide)) ?_
  refine zQ.s (fun h => zs_bipush (v := 63) o dX3_setWord_3 (by decide)) ?_
  obtain ⟨y1, c_y1, hm⟩ := bd_e hm
  refine zQ_Si o ml_X3_129 (M_in G _ _ _ _ c_y1) dX3_setWord_5 rfl rfl rfl rfl (by omega) (by omega) ?_
  obtain ⟨y2, c_y2, hm⟩ := bd_e hm
  refine zm_Vi o ml_X3_139 (M_cannot G p g _ _ _ _ _ _ c_y2) dX3_setWord_8 rfl rfl rfl rfl (by omega) (by omega) ?_
  refine zQ.b (fun h => zs_if_eq (tgt := 16) o dX3_setWord_11 (by decide)) (fun c => ?_) (fun c => ?_)
  · have hm := if_e1 hm c
    refine zQ.s (fun h => zs_aload_n (i := 0) o dX3_setWord_16 rfl rfl) ?_
    refine zm_getR o fl_X3_53_3 rfl dX3_setWord_17 ?_
    refine zQ.s (fun h => zs_iload_n (i := 1) o dX3_setWord_20 rfl rfl) ?_
    obtain ⟨g3, hm⟩ := gd_e hm
    refine zm_iald o rfl dX3_setWord_21 g3 ?_
    obtain ⟨v4, e_v4, hm⟩ := lt_e hm
    refine zQ.nmi e_v4 ?_
    refine zQ.s (fun h => zs_istore_n (i := 3) o dX3_setWord_22 rfl (by decide) (Or.inr rfl) (by simp only [List.set_cons_succ, List.set_cons_zero]; rfl)) ?_
    refine zQ.s (fun h => zs_aload_n (i := 0) o dX3_setWord_23 rfl rfl) ?_
    refine zm_getR o fl_X3_53_3 rfl dX3_setWord_24 ?_
    refine zQ.s (fun h => zs_iload_n (i := 1) o dX3_setWord_27 rfl rfl) ?_
    refine zQ.s (fun h => zs_iload_n (i := 2) o dX3_setWord_28 rfl rfl) ?_
    obtain ⟨g5, hm⟩ := gd_e hm
    obtain ⟨S6, e_S6, hm⟩ := lt_e hm
    refine zm_iast o rfl dX3_setWord_29 g5 e_S6 ?_
    refine zQ.s (fun h => zs_aload_n (i := 0) o dX3_setWord_30 rfl rfl) ?_
    refine zm_getR o fl_X3_47_3 rfl dX3_setWord_31 ?_
    refine zQ.s (fun h => zs_iload_n (i := 1) o dX3_setWord_34 rfl rfl) ?_
    refine zQ.s (fun h => zs_iload_n (i := 2) o dX3_setWord_35 rfl rfl) ?_
    obtain ⟨g7, hm⟩ := gd_e hm
    obtain ⟨S8, e_S8, hm⟩ := lt_e hm
    refine zm_iast o rfl dX3_setWord_36 g7 e_S8 ?_
    refine zQ.s (fun h => zs_iload_n (i := 3) o dX3_setWord_37 rfl rfl) ?_
    refine zm_reti o f dX3_setWord_38 rfl (by omega) (by omega) ((so_e hm).trans hR9.symm)
  · have hm := if_e2 hm c
    refine zQ.s (fun h => zs_iconst (v := 0) o dX3_setWord_14 (by decide)) ?_
    refine zm_reti o f dX3_setWord_15 rfl (by omega) (by omega) ((so_e hm).trans hR9.symm)

def m_setWidth (S : MS) (a1 : Int32) : Option (MS × Int32) :=
  bd (m_in a1 (1 : Int32) (4 : Int32)) fun y1 =>
  bd (m_cannot S y1) fun y2 =>
  if y2.2 = (0 : Int32) then
    lt (mS y2.1 6) fun v3 =>
    lt (tS y2.1 6 a1) fun S4 =>
    some (S4, v3)
  else
    some (y2.1, (0 : Int32))

set_option maxHeartbeats 40000000 in
theorem M_setWidth (G : zG) (p : Nat) (g : MG) (q n : Nat) (S : MS) (a1 : Int32) (V : Int32) (S9 : MS) (hm : m_setWidth S a1 = some (S9, V)) : zMi G yX3_setWidth cX3_setWidth 3 (some .int) 1 0 0 p g q n [.int a1] S V S9 := by
  intro h0 h hI0
  refine zCo.st [some (zrf p), some (.int a1), none] rfl rfl (by simp only [zarg_r, zarg_i, zarg_l, zarg_0]; rfl) (fun X o f0 hin hw0 => ?_)
  have f := f0.e
  refine (?_ : zQ (IM h0 p g q n S) G X 0 0 0 [some (zrf p), some (.int a1), none] []) h hI0 hw0
  clear hI0 hw0
  generalize hR9 : ((S9, V) : (MS × Int32)) = R at hm
  unfold m_setWidth at hm
  refine zQ.s (fun h => zs_aload_n (i := 0) o dX3_setWidth_0 rfl rfl) ?_
  refine zQ.s (fun h => zs_iload_n (i := 1) o dX3_setWidth_1 rfl rfl) ?_
  refine zQ.s (fun h => zs_iconst (v := 1) o dX3_setWidth_2 (by decide)) ?_
  refine zQ.s (fun h => zs_iconst (v := 4) o dX3_setWidth_3 (by decide)) ?_
  obtain ⟨y1, c_y1, hm⟩ := bd_e hm
  refine zQ_Si o ml_X3_129 (M_in G _ _ _ _ c_y1) dX3_setWidth_4 rfl rfl rfl rfl (by omega) (by omega) ?_
  obtain ⟨y2, c_y2, hm⟩ := bd_e hm
  refine zm_Vi o ml_X3_139 (M_cannot G p g _ _ _ _ _ _ c_y2) dX3_setWidth_7 rfl rfl rfl rfl (by omega) (by omega) ?_
  refine zQ.b (fun h => zs_if_eq (tgt := 15) o dX3_setWidth_10 (by decide)) (fun c => ?_) (fun c => ?_)
  · have hm := if_e1 hm c
    refine zQ.s (fun h => zs_aload_n (i := 0) o dX3_setWidth_15 rfl rfl) ?_
    refine zm_getI o fl_X3_25_3 rfl dX3_setWidth_16 ?_
    obtain ⟨v3, e_v3, hm⟩ := lt_e hm
    refine zQ.nmi e_v3 ?_
    refine zQ.s (fun h => zs_istore_n (i := 2) o dX3_setWidth_19 rfl (by decide) (Or.inr rfl) (by simp only [List.set_cons_succ, List.set_cons_zero]; rfl)) ?_
    refine zQ.s (fun h => zs_aload_n (i := 0) o dX3_setWidth_20 rfl rfl) ?_
    refine zQ.s (fun h => zs_iload_n (i := 1) o dX3_setWidth_21 rfl rfl) ?_
    obtain ⟨S4, e_S4, hm⟩ := lt_e hm
    refine zm_putI o fl_X3_25_3 rfl rfl ⟨rfl, rfl⟩ dX3_setWidth_22 e_S4 ?_
    refine zQ.s (fun h => zs_iload_n (i := 2) o dX3_setWidth_25 rfl rfl) ?_
    refine zm_reti o f dX3_setWidth_26 rfl (by omega) (by omega) ((so_e hm).trans hR9.symm)
  · have hm := if_e2 hm c
    refine zQ.s (fun h => zs_iconst (v := 0) o dX3_setWidth_13 (by decide)) ?_
    refine zm_reti o f dX3_setWidth_14 rfl (by omega) (by omega) ((so_e hm).trans hR9.symm)

def m_setBuffer (S : MS) (a1 : Int32) : Option (MS × Int32) :=
  bd (m_in a1 (4 : Int32) (16 : Int32)) fun y1 =>
  bd (m_cannot S y1) fun y2 =>
  if y2.2 = (0 : Int32) then
    lt (mS y2.1 7) fun v3 =>
    lt (tS y2.1 7 a1) fun S4 =>
    some (S4, v3)
  else
    some (y2.1, (0 : Int32))

set_option maxHeartbeats 40000000 in
theorem M_setBuffer (G : zG) (p : Nat) (g : MG) (q n : Nat) (S : MS) (a1 : Int32) (V : Int32) (S9 : MS) (hm : m_setBuffer S a1 = some (S9, V)) : zMi G yX3_setBuffer cX3_setBuffer 3 (some .int) 1 0 0 p g q n [.int a1] S V S9 := by
  intro h0 h hI0
  refine zCo.st [some (zrf p), some (.int a1), none] rfl rfl (by simp only [zarg_r, zarg_i, zarg_l, zarg_0]; rfl) (fun X o f0 hin hw0 => ?_)
  have f := f0.e
  refine (?_ : zQ (IM h0 p g q n S) G X 0 0 0 [some (zrf p), some (.int a1), none] []) h hI0 hw0
  clear hI0 hw0
  generalize hR9 : ((S9, V) : (MS × Int32)) = R at hm
  unfold m_setBuffer at hm
  refine zQ.s (fun h => zs_aload_n (i := 0) o dX3_setBuffer_0 rfl rfl) ?_
  refine zQ.s (fun h => zs_iload_n (i := 1) o dX3_setBuffer_1 rfl rfl) ?_
  refine zQ.s (fun h => zs_iconst (v := 4) o dX3_setBuffer_2 (by decide)) ?_
  refine zQ.s (fun h => zs_bipush (v := 16) o dX3_setBuffer_3 (by decide)) ?_
  obtain ⟨y1, c_y1, hm⟩ := bd_e hm
  refine zQ_Si o ml_X3_129 (M_in G _ _ _ _ c_y1) dX3_setBuffer_5 rfl rfl rfl rfl (by omega) (by omega) ?_
  obtain ⟨y2, c_y2, hm⟩ := bd_e hm
  refine zm_Vi o ml_X3_139 (M_cannot G p g _ _ _ _ _ _ c_y2) dX3_setBuffer_8 rfl rfl rfl rfl (by omega) (by omega) ?_
  refine zQ.b (fun h => zs_if_eq (tgt := 16) o dX3_setBuffer_11 (by decide)) (fun c => ?_) (fun c => ?_)
  · have hm := if_e1 hm c
    refine zQ.s (fun h => zs_aload_n (i := 0) o dX3_setBuffer_16 rfl rfl) ?_
    refine zm_getI o fl_X3_29_3 rfl dX3_setBuffer_17 ?_
    obtain ⟨v3, e_v3, hm⟩ := lt_e hm
    refine zQ.nmi e_v3 ?_
    refine zQ.s (fun h => zs_istore_n (i := 2) o dX3_setBuffer_20 rfl (by decide) (Or.inr rfl) (by simp only [List.set_cons_succ, List.set_cons_zero]; rfl)) ?_
    refine zQ.s (fun h => zs_aload_n (i := 0) o dX3_setBuffer_21 rfl rfl) ?_
    refine zQ.s (fun h => zs_iload_n (i := 1) o dX3_setBuffer_22 rfl rfl) ?_
    obtain ⟨S4, e_S4, hm⟩ := lt_e hm
    refine zm_putI o fl_X3_29_3 rfl rfl ⟨rfl, rfl⟩ dX3_setBuffer_23 e_S4 ?_
    refine zQ.s (fun h => zs_iload_n (i := 2) o dX3_setBuffer_26 rfl rfl) ?_
    refine zm_reti o f dX3_setBuffer_27 rfl (by omega) (by omega) ((so_e hm).trans hR9.symm)
  · have hm := if_e2 hm c
    refine zQ.s (fun h => zs_iconst (v := 0) o dX3_setBuffer_14 (by decide)) ?_
    refine zm_reti o f dX3_setBuffer_15 rfl (by omega) (by omega) ((so_e hm).trans hR9.symm)

def m_setQueue (S : MS) (a1 : Int32) : Option (MS × Int32) :=
  bd (m_in a1 (2 : Int32) (8 : Int32)) fun y1 =>
  bd (m_cannot S y1) fun y2 =>
  if y2.2 = (0 : Int32) then
    lt (mS y2.1 8) fun v3 =>
    lt (tS y2.1 8 a1) fun S4 =>
    some (S4, v3)
  else
    some (y2.1, (0 : Int32))

set_option maxHeartbeats 40000000 in
theorem M_setQueue (G : zG) (p : Nat) (g : MG) (q n : Nat) (S : MS) (a1 : Int32) (V : Int32) (S9 : MS) (hm : m_setQueue S a1 = some (S9, V)) : zMi G yX3_setQueue cX3_setQueue 3 (some .int) 1 0 0 p g q n [.int a1] S V S9 := by
  intro h0 h hI0
  refine zCo.st [some (zrf p), some (.int a1), none] rfl rfl (by simp only [zarg_r, zarg_i, zarg_l, zarg_0]; rfl) (fun X o f0 hin hw0 => ?_)
  have f := f0.e
  refine (?_ : zQ (IM h0 p g q n S) G X 0 0 0 [some (zrf p), some (.int a1), none] []) h hI0 hw0
  clear hI0 hw0
  generalize hR9 : ((S9, V) : (MS × Int32)) = R at hm
  unfold m_setQueue at hm
  refine zQ.s (fun h => zs_aload_n (i := 0) o dX3_setQueue_0 rfl rfl) ?_
  refine zQ.s (fun h => zs_iload_n (i := 1) o dX3_setQueue_1 rfl rfl) ?_
  refine zQ.s (fun h => zs_iconst (v := 2) o dX3_setQueue_2 (by decide)) ?_
  refine zQ.s (fun h => zs_bipush (v := 8) o dX3_setQueue_3 (by decide)) ?_
  obtain ⟨y1, c_y1, hm⟩ := bd_e hm
  refine zQ_Si o ml_X3_129 (M_in G _ _ _ _ c_y1) dX3_setQueue_5 rfl rfl rfl rfl (by omega) (by omega) ?_
  obtain ⟨y2, c_y2, hm⟩ := bd_e hm
  refine zm_Vi o ml_X3_139 (M_cannot G p g _ _ _ _ _ _ c_y2) dX3_setQueue_8 rfl rfl rfl rfl (by omega) (by omega) ?_
  refine zQ.b (fun h => zs_if_eq (tgt := 16) o dX3_setQueue_11 (by decide)) (fun c => ?_) (fun c => ?_)
  · have hm := if_e1 hm c
    refine zQ.s (fun h => zs_aload_n (i := 0) o dX3_setQueue_16 rfl rfl) ?_
    refine zm_getI o fl_X3_32_3 rfl dX3_setQueue_17 ?_
    obtain ⟨v3, e_v3, hm⟩ := lt_e hm
    refine zQ.nmi e_v3 ?_
    refine zQ.s (fun h => zs_istore_n (i := 2) o dX3_setQueue_20 rfl (by decide) (Or.inr rfl) (by simp only [List.set_cons_succ, List.set_cons_zero]; rfl)) ?_
    refine zQ.s (fun h => zs_aload_n (i := 0) o dX3_setQueue_21 rfl rfl) ?_
    refine zQ.s (fun h => zs_iload_n (i := 1) o dX3_setQueue_22 rfl rfl) ?_
    obtain ⟨S4, e_S4, hm⟩ := lt_e hm
    refine zm_putI o fl_X3_32_3 rfl rfl ⟨rfl, rfl⟩ dX3_setQueue_23 e_S4 ?_
    refine zQ.s (fun h => zs_iload_n (i := 2) o dX3_setQueue_26 rfl rfl) ?_
    refine zm_reti o f dX3_setQueue_27 rfl (by omega) (by omega) ((so_e hm).trans hR9.symm)
  · have hm := if_e2 hm c
    refine zQ.s (fun h => zs_iconst (v := 0) o dX3_setQueue_14 (by decide)) ?_
    refine zm_reti o f dX3_setQueue_15 rfl (by omega) (by omega) ((so_e hm).trans hR9.symm)

def m_setInner (S : MS) (a1 : Int32) : Option (MS × Int32) :=
  bd (m_in a1 (10 : Int32) (24 : Int32)) fun y1 =>
  bd (m_cannot S y1) fun y2 =>
  if y2.2 = (0 : Int32) then
    lt (mS y2.1 9) fun v3 =>
    lt (tS y2.1 9 a1) fun S4 =>
    bd (m_laysFree S4) fun y5 =>
    some (y5, v3)
  else
    some (y2.1, (0 : Int32))

set_option maxHeartbeats 40000000 in
theorem M_setInner (G : zG) (p : Nat) (g : MG) (q n : Nat) (S : MS) (a1 : Int32) (V : Int32) (S9 : MS) (hm : m_setInner S a1 = some (S9, V)) : zMi G yX3_setInner cX3_setInner 3 (some .int) 1 0 0 p g q n [.int a1] S V S9 := by
  intro h0 h hI0
  refine zCo.st [some (zrf p), some (.int a1), none] rfl rfl (by simp only [zarg_r, zarg_i, zarg_l, zarg_0]; rfl) (fun X o f0 hin hw0 => ?_)
  have f := f0.e
  refine (?_ : zQ (IM h0 p g q n S) G X 0 0 0 [some (zrf p), some (.int a1), none] []) h hI0 hw0
  clear hI0 hw0
  generalize hR9 : ((S9, V) : (MS × Int32)) = R at hm
  unfold m_setInner at hm
  refine zQ.s (fun h => zs_aload_n (i := 0) o dX3_setInner_0 rfl rfl) ?_
  refine zQ.s (fun h => zs_iload_n (i := 1) o dX3_setInner_1 rfl rfl) ?_
  refine zQ.s (fun h => zs_bipush (v := 10) o dX3_setInner_2 (by decide)) ?_
  refine zQ.s (fun h => zs_bipush (v := 24) o dX3_setInner_4 (by decide)) ?_
  obtain ⟨y1, c_y1, hm⟩ := bd_e hm
  refine zQ_Si o ml_X3_129 (M_in G _ _ _ _ c_y1) dX3_setInner_6 rfl rfl rfl rfl (by omega) (by omega) ?_
  obtain ⟨y2, c_y2, hm⟩ := bd_e hm
  refine zm_Vi o ml_X3_139 (M_cannot G p g _ _ _ _ _ _ c_y2) dX3_setInner_9 rfl rfl rfl rfl (by omega) (by omega) ?_
  refine zQ.b (fun h => zs_if_eq (tgt := 17) o dX3_setInner_12 (by decide)) (fun c => ?_) (fun c => ?_)
  · have hm := if_e1 hm c
    refine zQ.s (fun h => zs_aload_n (i := 0) o dX3_setInner_17 rfl rfl) ?_
    refine zm_getI o fl_X3_35_3 rfl dX3_setInner_18 ?_
    obtain ⟨v3, e_v3, hm⟩ := lt_e hm
    refine zQ.nmi e_v3 ?_
    refine zQ.s (fun h => zs_istore_n (i := 2) o dX3_setInner_21 rfl (by decide) (Or.inr rfl) (by simp only [List.set_cons_succ, List.set_cons_zero]; rfl)) ?_
    refine zQ.s (fun h => zs_aload_n (i := 0) o dX3_setInner_22 rfl rfl) ?_
    refine zQ.s (fun h => zs_iload_n (i := 1) o dX3_setInner_23 rfl rfl) ?_
    obtain ⟨S4, e_S4, hm⟩ := lt_e hm
    refine zm_putI o fl_X3_35_3 rfl rfl ⟨rfl, rfl⟩ dX3_setInner_24 e_S4 ?_
    refine zQ.s (fun h => zs_aload_n (i := 0) o dX3_setInner_27 rfl rfl) ?_
    obtain ⟨y5, c_y5, hm⟩ := bd_e hm
    refine zm_Vv o ml_X3_120 (M_laysFree G p g _ _ _ _ c_y5) dX3_setInner_28 rfl rfl rfl rfl (by omega) (by omega) ?_
    refine zQ.s (fun h => zs_iload_n (i := 2) o dX3_setInner_31 rfl rfl) ?_
    refine zm_reti o f dX3_setInner_32 rfl (by omega) (by omega) ((so_e hm).trans hR9.symm)
  · have hm := if_e2 hm c
    refine zQ.s (fun h => zs_iconst (v := 0) o dX3_setInner_15 (by decide)) ?_
    refine zm_reti o f dX3_setInner_16 rfl (by omega) (by omega) ((so_e hm).trans hR9.symm)

def m_setHandlers_j26 (S : MS) (x1 : Int32) (x2 : Int32) (s1 : Int32) : Option (MS × Int32) :=
  bd (m_cannot S s1) fun y1 =>
  if y1.2 = (0 : Int32) then
    lt (((64 : Int32) * (mS y1.1 10)) + (mS y1.1 11)) fun v2 =>
    lt (tS y1.1 10 x1) fun S3 =>
    lt (tS S3 11 x2) fun S4 =>
    some (S4, v2)
  else
    some (y1.1, (0 : Int32))
def m_setHandlers_j25 (S : MS) (x1 : Int32) (x2 : Int32) : Option (MS × Int32) :=
  m_setHandlers_j26 S x1 x2 (0 : Int32)
def m_setHandlers (S : MS) (a1 : Int32) (a2 : Int32) : Option (MS × Int32) :=
  bd (m_in a1 (-1 : Int32) (63 : Int32)) fun y1 =>
  if y1 = (0 : Int32) then
    m_setHandlers_j25 S a1 a2
  else
    bd (m_in a2 (-1 : Int32) (63 : Int32)) fun y2 =>
    if y2 = (0 : Int32) then
      m_setHandlers_j25 S a1 a2
    else
      m_setHandlers_j26 S a1 a2 (1 : Int32)

set_option maxHeartbeats 40000000 in
theorem M_setHandlers (G : zG) (p : Nat) (g : MG) (q n : Nat) (S : MS) (a1 : Int32) (a2 : Int32) (V : Int32) (S9 : MS) (hm : m_setHandlers S a1 a2 = some (S9, V)) : zMi G yX3_setHandlers cX3_setHandlers 4 (some .int) 1 0 0 p g q n [.int a1, .int a2] S V S9 := by
  intro h0 h hI0
  refine zCo.st [some (zrf p), some (.int a1), some (.int a2), none] rfl rfl (by simp only [zarg_r, zarg_i, zarg_l, zarg_0]; rfl) (fun X o f0 hin hw0 => ?_)
  have f := f0.e
  refine (?_ : zQ (IM h0 p g q n S) G X 0 0 0 [some (zrf p), some (.int a1), some (.int a2), none] []) h hI0 hw0
  clear hI0 hw0
  generalize hR9 : ((S9, V) : (MS × Int32)) = R at hm
  have hj26 : ∀ (S : MS) (x1 : Int32) (x2 : Int32) (s1 : Int32) (cl sl : Nat), cl + (0) ≤ 0 → sl + (0) ≤ 0 → m_setHandlers_j26 S x1 x2 s1 = some R → zQ (IM h0 p g q n S) G X cl sl 26 [some (zrf p), some (.int x1), some (.int x2), none] [.int s1, zrf p] := by
    intro S x1 x2 s1 cl sl hc hs hm
    unfold m_setHandlers_j26 at hm
    obtain ⟨y1, c_y1, hm⟩ := bd_e hm
    refine zm_Vi o ml_X3_139 (M_cannot G p g _ _ _ _ _ _ c_y1) dX3_setHandlers_26 rfl rfl rfl rfl (by omega) (by omega) ?_
    refine zQ.b (fun h => zs_if_eq (tgt := 34) o dX3_setHandlers_29 (by decide)) (fun c => ?_) (fun c => ?_)
    · have hm := if_e1 hm c
      refine zQ.s (fun h => zs_bipush (v := 64) o dX3_setHandlers_34 (by decide)) ?_
      refine zQ.s (fun h => zs_aload_n (i := 0) o dX3_setHandlers_36 rfl rfl) ?_
      refine zm_getI o fl_X3_38_3 rfl dX3_setHandlers_37 ?_
      refine zQ.s (fun h => zs_imul o dX3_setHandlers_40) ?_
      refine zQ.s (fun h => zs_aload_n (i := 0) o dX3_setHandlers_41 rfl rfl) ?_
      refine zm_getI o fl_X3_41_3 rfl dX3_setHandlers_42 ?_
      refine zQ.s (fun h => zs_iadd o dX3_setHandlers_45) ?_
      obtain ⟨v2, e_v2, hm⟩ := lt_e hm
      refine zQ.nmi e_v2 ?_
      refine zQ.s (fun h => zs_istore_n (i := 3) o dX3_setHandlers_46 rfl (by decide) (Or.inr rfl) (by simp only [List.set_cons_succ, List.set_cons_zero]; rfl)) ?_
      refine zQ.s (fun h => zs_aload_n (i := 0) o dX3_setHandlers_47 rfl rfl) ?_
      refine zQ.s (fun h => zs_iload_n (i := 1) o dX3_setHandlers_48 rfl rfl) ?_
      obtain ⟨S3, e_S3, hm⟩ := lt_e hm
      refine zm_putI o fl_X3_38_3 rfl rfl ⟨rfl, rfl⟩ dX3_setHandlers_49 e_S3 ?_
      refine zQ.s (fun h => zs_aload_n (i := 0) o dX3_setHandlers_52 rfl rfl) ?_
      refine zQ.s (fun h => zs_iload_n (i := 2) o dX3_setHandlers_53 rfl rfl) ?_
      obtain ⟨S4, e_S4, hm⟩ := lt_e hm
      refine zm_putI o fl_X3_41_3 rfl rfl ⟨rfl, rfl⟩ dX3_setHandlers_54 e_S4 ?_
      refine zQ.s (fun h => zs_iload_n (i := 3) o dX3_setHandlers_57 rfl rfl) ?_
      refine zm_reti o f dX3_setHandlers_58 rfl (by omega) (by omega) ((so_e hm).trans hR9.symm)
    · have hm := if_e2 hm c
      refine zQ.s (fun h => zs_iconst (v := 0) o dX3_setHandlers_32 (by decide)) ?_
      refine zm_reti o f dX3_setHandlers_33 rfl (by omega) (by omega) ((so_e hm).trans hR9.symm)
  have hj25 : ∀ (S : MS) (x1 : Int32) (x2 : Int32) (cl sl : Nat), cl + (0) ≤ 0 → sl + (0) ≤ 0 → m_setHandlers_j25 S x1 x2 = some R → zQ (IM h0 p g q n S) G X cl sl 25 [some (zrf p), some (.int x1), some (.int x2), none] [zrf p] := by
    intro S x1 x2 cl sl hc hs hm
    unfold m_setHandlers_j25 at hm
    refine zQ.s (fun h => zs_iconst (v := 0) o dX3_setHandlers_25 (by decide)) ?_
    exact hj26 _ _ _ _ _ _ (by omega) (by omega) hm
  unfold m_setHandlers at hm
  refine zQ.s (fun h => zs_aload_n (i := 0) o dX3_setHandlers_0 rfl rfl) ?_
  refine zQ.s (fun h => zs_iload_n (i := 1) o dX3_setHandlers_1 rfl rfl) ?_
  refine zQ.s (fun h => zs_iconst (v := -1) o dX3_setHandlers_2 (by decide)) ?_
  refine zQ.s (fun h => zs_bipush (v := 63) o dX3_setHandlers_3 (by decide)) ?_
  obtain ⟨y1, c_y1, hm⟩ := bd_e hm
  refine zQ_Si o ml_X3_129 (M_in G _ _ _ _ c_y1) dX3_setHandlers_5 rfl rfl rfl rfl (by omega) (by omega) ?_
  refine zQ.b (fun h => zs_if_eq (tgt := 25) o dX3_setHandlers_8 (by decide)) (fun c => ?_) (fun c => ?_)
  · have hm := if_e1 hm c
    exact hj25 _ _ _ _ _ (by omega) (by omega) hm
  · have hm := if_e2 hm c
    refine zQ.s (fun h => zs_iload_n (i := 2) o dX3_setHandlers_11 rfl rfl) ?_
    refine zQ.s (fun h => zs_iconst (v := -1) o dX3_setHandlers_12 (by decide)) ?_
    refine zQ.s (fun h => zs_bipush (v := 63) o dX3_setHandlers_13 (by decide)) ?_
    obtain ⟨y2, c_y2, hm⟩ := bd_e hm
    refine zQ_Si o ml_X3_129 (M_in G _ _ _ _ c_y2) dX3_setHandlers_15 rfl rfl rfl rfl (by omega) (by omega) ?_
    refine zQ.b (fun h => zs_if_eq (tgt := 25) o dX3_setHandlers_18 (by decide)) (fun c => ?_) (fun c => ?_)
    · have hm := if_e1 hm c
      exact hj25 _ _ _ _ _ (by omega) (by omega) hm
    · have hm := if_e2 hm c
      refine zQ.s (fun h => zs_iconst (v := 1) o dX3_setHandlers_21 (by decide)) ?_
      refine zQ.s (fun h => zs_goto (tgt := 26) o dX3_setHandlers_22 (by decide)) ?_
      exact hj26 _ _ _ _ _ _ (by omega) (by omega) hm

def m_setTime_j26 (S : MS) (x1 : Int32) (x2 : Int32) (s1 : Int32) : Option (MS × Int32) :=
  lt (tS S 54 s1) fun S1 =>
  if (mS S1 54) ≤ (0 : Int32) then
    gd (inb x1 16) <|
    lt (mA S1 14 (ix x1)) fun v3 =>
    gd (inb x1 16) <|
    lt (tA S1 14 (ix x1) x2) fun S5 =>
    some (S5, v3)
  else
    some (S1, (0 : Int32))
def m_setTime_j25 (S : MS) (x1 : Int32) (x2 : Int32) : Option (MS × Int32) :=
  m_setTime_j26 S x1 x2 (1 : Int32)
def m_setTime (S : MS) (a1 : Int32) (a2 : Int32) : Option (MS × Int32) :=
  bd (m_in a1 (0 : Int32) (15 : Int32)) fun y1 =>
  if y1 = (0 : Int32) then
    m_setTime_j25 S a1 a2
  else
    bd (m_in a2 (1 : Int32) (30 : Int32)) fun y2 =>
    if y2 = (0 : Int32) then
      m_setTime_j25 S a1 a2
    else
      m_setTime_j26 S a1 a2 (0 : Int32)

set_option maxHeartbeats 40000000 in
theorem M_setTime (G : zG) (p : Nat) (g : MG) (q n : Nat) (S : MS) (a1 : Int32) (a2 : Int32) (V : Int32) (S9 : MS) (hm : m_setTime S a1 a2 = some (S9, V)) : zMi G yX3_setTime cX3_setTime 4 (some .int) 1 0 0 p g q n [.int a1, .int a2] S V S9 := by
  intro h0 h hI0
  refine zCo.st [some (zrf p), some (.int a1), some (.int a2), none] rfl rfl (by simp only [zarg_r, zarg_i, zarg_l, zarg_0]; rfl) (fun X o f0 hin hw0 => ?_)
  have f := f0.e
  refine (?_ : zQ (IM h0 p g q n S) G X 0 0 0 [some (zrf p), some (.int a1), some (.int a2), none] []) h hI0 hw0
  clear hI0 hw0
  generalize hR9 : ((S9, V) : (MS × Int32)) = R at hm
  have hj26 : ∀ (S : MS) (x1 : Int32) (x2 : Int32) (s1 : Int32) (cl sl : Nat), cl + (0) ≤ 0 → sl + (0) ≤ 0 → m_setTime_j26 S x1 x2 s1 = some R → zQ (IM h0 p g q n S) G X cl sl 26 [some (zrf p), some (.int x1), some (.int x2), none] [.int s1, zrf p] := by
    intro S x1 x2 s1 cl sl hc hs hm
    unfold m_setTime_j26 at hm
    obtain ⟨S1, e_S1, hm⟩ := lt_e hm
    refine zm_putI o fl_X3_123_3 rfl rfl ⟨rfl, rfl⟩ dX3_setTime_26 e_S1 ?_
    refine zQ.s (fun h => zs_aload_n (i := 0) o dX3_setTime_29 rfl rfl) ?_
    refine zm_getI o fl_X3_123_3 rfl dX3_setTime_30 ?_
    refine zQ.b (fun h => zs_if_le (tgt := 38) o dX3_setTime_33 (by decide)) (fun c => ?_) (fun c => ?_)
    · have hm := if_e1 hm c
      refine zQ.s (fun h => zs_aload_n (i := 0) o dX3_setTime_38 rfl rfl) ?_
      refine zm_getR o fl_X3_50_3 rfl dX3_setTime_39 ?_
      refine zQ.s (fun h => zs_iload_n (i := 1) o dX3_setTime_42 rfl rfl) ?_
      obtain ⟨g2, hm⟩ := gd_e hm
      refine zm_iald o rfl dX3_setTime_43 g2 ?_
      obtain ⟨v3, e_v3, hm⟩ := lt_e hm
      refine zQ.nmi e_v3 ?_
      refine zQ.s (fun h => zs_istore_n (i := 3) o dX3_setTime_44 rfl (by decide) (Or.inr rfl) (by simp only [List.set_cons_succ, List.set_cons_zero]; rfl)) ?_
      refine zQ.s (fun h => zs_aload_n (i := 0) o dX3_setTime_45 rfl rfl) ?_
      refine zm_getR o fl_X3_50_3 rfl dX3_setTime_46 ?_
      refine zQ.s (fun h => zs_iload_n (i := 1) o dX3_setTime_49 rfl rfl) ?_
      refine zQ.s (fun h => zs_iload_n (i := 2) o dX3_setTime_50 rfl rfl) ?_
      obtain ⟨g4, hm⟩ := gd_e hm
      obtain ⟨S5, e_S5, hm⟩ := lt_e hm
      refine zm_iast o rfl dX3_setTime_51 g4 e_S5 ?_
      refine zQ.s (fun h => zs_iload_n (i := 3) o dX3_setTime_52 rfl rfl) ?_
      refine zm_reti o f dX3_setTime_53 rfl (by omega) (by omega) ((so_e hm).trans hR9.symm)
    · have hm := if_e2 hm c
      refine zQ.s (fun h => zs_iconst (v := 0) o dX3_setTime_36 (by decide)) ?_
      refine zm_reti o f dX3_setTime_37 rfl (by omega) (by omega) ((so_e hm).trans hR9.symm)
  have hj25 : ∀ (S : MS) (x1 : Int32) (x2 : Int32) (cl sl : Nat), cl + (0) ≤ 0 → sl + (0) ≤ 0 → m_setTime_j25 S x1 x2 = some R → zQ (IM h0 p g q n S) G X cl sl 25 [some (zrf p), some (.int x1), some (.int x2), none] [zrf p] := by
    intro S x1 x2 cl sl hc hs hm
    unfold m_setTime_j25 at hm
    refine zQ.s (fun h => zs_iconst (v := 1) o dX3_setTime_25 (by decide)) ?_
    exact hj26 _ _ _ _ _ _ (by omega) (by omega) hm
  unfold m_setTime at hm
  refine zQ.s (fun h => zs_aload_n (i := 0) o dX3_setTime_0 rfl rfl) ?_
  refine zQ.s (fun h => zs_iload_n (i := 1) o dX3_setTime_1 rfl rfl) ?_
  refine zQ.s (fun h => zs_iconst (v := 0) o dX3_setTime_2 (by decide)) ?_
  refine zQ.s (fun h => zs_bipush (v := 15) o dX3_setTime_3 (by decide)) ?_
  obtain ⟨y1, c_y1, hm⟩ := bd_e hm
  refine zQ_Si o ml_X3_129 (M_in G _ _ _ _ c_y1) dX3_setTime_5 rfl rfl rfl rfl (by omega) (by omega) ?_
  refine zQ.b (fun h => zs_if_eq (tgt := 25) o dX3_setTime_8 (by decide)) (fun c => ?_) (fun c => ?_)
  · have hm := if_e1 hm c
    exact hj25 _ _ _ _ _ (by omega) (by omega) hm
  · have hm := if_e2 hm c
    refine zQ.s (fun h => zs_iload_n (i := 2) o dX3_setTime_11 rfl rfl) ?_
    refine zQ.s (fun h => zs_iconst (v := 1) o dX3_setTime_12 (by decide)) ?_
    refine zQ.s (fun h => zs_bipush (v := 30) o dX3_setTime_13 (by decide)) ?_
    obtain ⟨y2, c_y2, hm⟩ := bd_e hm
    refine zQ_Si o ml_X3_129 (M_in G _ _ _ _ c_y2) dX3_setTime_15 rfl rfl rfl rfl (by omega) (by omega) ?_
    refine zQ.b (fun h => zs_if_eq (tgt := 25) o dX3_setTime_18 (by decide)) (fun c => ?_) (fun c => ?_)
    · have hm := if_e1 hm c
      exact hj25 _ _ _ _ _ (by omega) (by omega) hm
    · have hm := if_e2 hm c
      refine zQ.s (fun h => zs_iconst (v := 0) o dX3_setTime_21 (by decide)) ?_
      refine zQ.s (fun h => zs_goto (tgt := 26) o dX3_setTime_22 (by decide)) ?_
      exact hj26 _ _ _ _ _ _ (by omega) (by omega) hm

def m_interrupt (S : MS) : Option (MS × Int32) :=
  lt (tS S 54 (0 : Int32)) fun S1 =>
  lt (mS S1 38) fun v2 =>
  lt (tS S1 38 (1 : Int32)) fun S3 =>
  gd (b01 v2) <|
  some (S3, v2)

set_option maxHeartbeats 40000000 in
theorem M_interrupt (G : zG) (p : Nat) (g : MG) (q n : Nat) (S : MS) (V : Int32) (S9 : MS) (hm : m_interrupt S = some (S9, V)) : zMi G yX3_interrupt cX3_interrupt 2 (some .boolean) 0 0 0 p g q n [] S V S9 := by
  intro h0 h hI0
  refine zCo.st [some (zrf p), none] rfl rfl (by simp only [zarg_r, zarg_i, zarg_l, zarg_0]; rfl) (fun X o f0 hin hw0 => ?_)
  have f := f0.e
  refine (?_ : zQ (IM h0 p g q n S) G X 0 0 0 [some (zrf p), none] []) h hI0 hw0
  clear hI0 hw0
  generalize hR9 : ((S9, V) : (MS × Int32)) = R at hm
  unfold m_interrupt at hm
  refine zQ.s (fun h => zs_aload_n (i := 0) o dX3_interrupt_0 rfl rfl) ?_
  refine zQ.s (fun h => zs_iconst (v := 0) o dX3_interrupt_1 (by decide)) ?_
  obtain ⟨S1, e_S1, hm⟩ := lt_e hm
  refine zm_putI o fl_X3_123_3 rfl rfl ⟨rfl, rfl⟩ dX3_interrupt_2 e_S1 ?_
  refine zQ.s (fun h => zs_aload_n (i := 0) o dX3_interrupt_5 rfl rfl) ?_
  refine zm_getI o fl_X3_143_3 rfl dX3_interrupt_6 ?_
  obtain ⟨v2, e_v2, hm⟩ := lt_e hm
  refine zQ.nmi e_v2 ?_
  refine zQ.s (fun h => zs_istore_n (i := 1) o dX3_interrupt_9 rfl (by decide) (Or.inr (zc2_ref rfl)) (by simp only [List.set_cons_succ, List.set_cons_zero]; rfl)) ?_
  refine zQ.s (fun h => zs_aload_n (i := 0) o dX3_interrupt_10 rfl rfl) ?_
  refine zQ.s (fun h => zs_iconst (v := 1) o dX3_interrupt_11 (by decide)) ?_
  obtain ⟨S3, e_S3, hm⟩ := lt_e hm
  refine zm_putI o fl_X3_143_3 rfl rfl ⟨rfl, rfl⟩ dX3_interrupt_12 e_S3 ?_
  refine zQ.s (fun h => zs_iload_n (i := 1) o dX3_interrupt_15 rfl rfl) ?_
  obtain ⟨g4, hm⟩ := gd_e hm
  refine zm_reti o f dX3_interrupt_16 (b01_e g4).1 (by omega) (by omega) ((so_e hm).trans hR9.symm)
