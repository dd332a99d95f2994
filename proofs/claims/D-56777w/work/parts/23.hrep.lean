/-! ROWS OVER THE HEAP ITSELF: for methods of the library (printed by mk23.py) -/
set_option maxRecDepth 100000
abbrev EH (h : zH) : zH → Prop := fun x => x = h
def kd (h : zH) (p c : Nat) : Bool := decide ((zK h p).1 = c)
def wr (h : zH) (p : Nat) : Bool := decide ((zK h p).2 ≠ 0)
def rl (h : zH) (p : Nat) : Nat := (zK h p).2
def hI (h : zH) (c k p : Nat) : Int32 := zI h c (zK h p).2 k p
def hR (h : zH) (c k p : Nat) : Nat := zR h c (zK h p).2 k p
def hL (h : zH) (c k p : Nat) : Int64 := zL h c (zK h p).2 k p
def pI (h : zH) (c k p : Nat) (x : Int32) : zH := sI h c (zK h p).2 k p x
def pR (h : zH) (c k p x : Nat) : zH := sR h c (zK h p).2 k p x
def pL (h : zH) (c k p : Nat) (x : Int64) : zH := sL h c (zK h p).2 k p x
def isA (h : zH) (p : Nat) : Bool := decide (201 ≤ (zK h p).1 ∧ (zK h p).1 ≤ 208)
def nzr (p : Nat) : Bool := decide (p ≠ 0)
theorem kd_e {h : zH} {p c : Nat} (g : kd h p c = true) : zK h p = (c, (zK h p).2) := by
  have e : (zK h p).1 = c := of_decide_eq_true g
  rw [← e]
theorem kd_of {h : zH} {p c r : Nat} (g : zK h p = (c, r)) : kd h p c = true := by unfold kd; rw [g]; exact decide_eq_true rfl
theorem wr_of {h : zH} {p c r : Nat} (g : zK h p = (c, r)) (hr : r ≠ 0) : wr h p = true := by unfold wr; rw [g]; exact decide_eq_true hr
theorem hI_of {h : zH} {p c r k : Nat} (g : zK h p = (c, r)) : hI h c k p = zI h c r k p := by unfold hI; rw [g]
theorem hR_of {h : zH} {p c r k : Nat} (g : zK h p = (c, r)) : hR h c k p = zR h c r k p := by unfold hR; rw [g]
theorem hL_of {h : zH} {p c r k : Nat} (g : zK h p = (c, r)) : hL h c k p = zL h c r k p := by unfold hL; rw [g]
theorem pI_of {h : zH} {p c r k : Nat} {x : Int32} (g : zK h p = (c, r)) : pI h c k p x = sI h c r k p x := by unfold pI; rw [g]
theorem pR_of {h : zH} {p c r k x : Nat} (g : zK h p = (c, r)) : pR h c k p x = sR h c r k p x := by unfold pR; rw [g]
theorem pL_of {h : zH} {p c r k : Nat} {x : Int64} (g : zK h p = (c, r)) : pL h c k p x = sL h c r k p x := by unfold pL; rw [g]
theorem rl_of {h : zH} {p c r : Nat} (g : zK h p = (c, r)) : rl h p = r := by unfold rl; rw [g]
def asz (n : Int32) (N : Nat) : Bool := decide (¬ n < 0 ∧ n.toNatClampNeg ≤ N)
theorem asz_n {n : Int32} {N : Nat} (h : asz n N = true) : ¬ n < 0 := (of_decide_eq_true h).1
theorem asz_m {n : Int32} {N : Nat} (h : asz n N = true) : n.toNatClampNeg ≤ N := (of_decide_eq_true h).2
/-- classes whose objects may lie in an Object[] -/
def zcs : List Nat := [1, 2, 3, 4, 5, 6, 7, 8, 9, 10, 11, 12, 13, 14, 15, 16, 17, 18, 19, 20]
def oka (h : zH) (x : Nat) : Bool := x == 0 || zcs.contains (zK h x).1
theorem zcs_ok : ∀ c ∈ zcs, Cond.castable (zq c).1 "java/lang/Object" ∈ lw_tbl ∧ c ≠ 0 ∧ c < 21 := by
  intro c hc
  simp only [zcs, List.mem_cons, List.not_mem_nil, or_false] at hc
  rcases hc with rfl | rfl | rfl | rfl | rfl | rfl | rfl | rfl | rfl | rfl | rfl | rfl | rfl | rfl | rfl | rfl | rfl | rfl | rfl | rfl
  · exact ⟨q3117, by decide, by decide⟩
  · exact ⟨q3119, by decide, by decide⟩
  · exact ⟨q3129, by decide, by decide⟩
  · exact ⟨q3130, by decide, by decide⟩
  · exact ⟨q3139, by decide, by decide⟩
  · exact ⟨q3140, by decide, by decide⟩
  · exact ⟨q3141, by decide, by decide⟩
  · exact ⟨q3142, by decide, by decide⟩
  · exact ⟨q3144, by decide, by decide⟩
  · exact ⟨q3118, by decide, by decide⟩
  · exact ⟨q3120, by decide, by decide⟩
  · exact ⟨q3121, by decide, by decide⟩
  · exact ⟨q3122, by decide, by decide⟩
  · exact ⟨q3131, by decide, by decide⟩
  · exact ⟨q3137, by decide, by decide⟩
  · exact ⟨q3134, by decide, by decide⟩
  · exact ⟨q3138, by decide, by decide⟩
  · exact ⟨q3145, by decide, by decide⟩
  · exact ⟨q3127, by decide, by decide⟩
  · exact ⟨q3125, by decide, by decide⟩
section ZH
variable {h h9 : zH} {G : zG} {X : zX} {cc : ByteArray} {own : String} {nL fr lo mc ms cl sl pc : Nat} {L : List (Option Value)} {st : List Value}
theorem zQ.nmr {I : zH → Prop} {x y : Nat} (e : y = x) (k : zQ I G X cl sl pc L (zrf y :: st)) : zQ I G X cl sl pc L (zrf x :: st) := by rw [← e]; exact k
theorem zh_getI (o : zOk G X cc own nL fr lo mc ms) {index c k p : Nat} (g : kd h p c = true) (fl : zFL own index c k) (hf : zfk c k = 0) (hd : decode cc pc = .ok (.getfield index, 3)) (kk : zQ (EH h) G X cl sl (pc + 3) L (.int (hI h c k p) :: st)) : zQ (EH h) G X cl sl pc L (zrf p :: st) := fun h1 hI0 hw => by
  have e0 : h = h1 := (hI0 : h1 = h).symm
  subst e0
  exact zs_getI o fl hf hd (kd_e g) (kk _ rfl hw)
theorem zh_putI (o : zOk G X cc own nL fr lo mc ms) {index c k p : Nat} {x : Int32} (g : kd h p c = true) (g2 : wr h p = true) (fl : zFL own index c k) (hf : zfk c k = 0) (hfin : ((zq c).2.1 k).2.2.2 = false) (hn : narrow (zty c k) (.int x) = .int x ∧ fits (zty c k) (.int x) = true) (hd : decode cc pc = .ok (.putfield index, 3)) (e : h9 = pI h c k p x) (kk : zQ (EH h9) G X cl sl (pc + 3) L st) : zQ (EH h) G X cl sl pc L (.int x :: zrf p :: st) := fun h1 hI0 hw => by
  have e0 : h = h1 := (hI0 : h1 = h).symm
  subst e0
  exact zs_putI o fl hf hfin hn hd (kd_e g) (of_decide_eq_true g2) (kk _ e.symm hw)
theorem zh_putIF (o : zOk G X cc own nL fr lo mc ms) {index c k p : Nat} {x : Int32} (hin : (Xt X).name = "<init>") (g : kd h p c = true) (g2 : wr h p = true) (fl : zFL own index c k) (hf : zfk c k = 0) (hfin : ((zq c).2.1 k).2.2.2 = true ∧ ((zq c).2.1 k).1 = own) (hn : narrow (zty c k) (.int x) = .int x ∧ fits (zty c k) (.int x) = true) (hd : decode cc pc = .ok (.putfield index, 3)) (e : h9 = pI h c k p x) (kk : zQ (EH h9) G X cl sl (pc + 3) L st) : zQ (EH h) G X cl sl pc L (.int x :: zrf p :: st) := fun h1 hI0 hw => by
  have e0 : h = h1 := (hI0 : h1 = h).symm
  subst e0
  exact zs_putIF o hin fl hf hfin hn hd (kd_e g) (of_decide_eq_true g2) (kk _ e.symm hw)
theorem zh_getR (o : zOk G X cc own nL fr lo mc ms) {index c k p : Nat} (g : kd h p c = true) (fl : zFL own index c k) (hf : zfk c k = 1) (hd : decode cc pc = .ok (.getfield index, 3)) (kk : zQ (EH h) G X cl sl (pc + 3) L (zrf (hR h c k p) :: st)) : zQ (EH h) G X cl sl pc L (zrf p :: st) := fun h1 hI0 hw => by
  have e0 : h = h1 := (hI0 : h1 = h).symm
  subst e0
  exact zs_getR o fl hf hd (kd_e g) (kk _ rfl hw)
theorem zh_putR (o : zOk G X cc own nL fr lo mc ms) {index c k p : Nat} {x : Nat} (g : kd h p c = true) (g2 : wr h p = true) (fl : zFL own index c k) (hf : zfk c k = 1) (hfin : ((zq c).2.1 k).2.2.2 = false) (hd : decode cc pc = .ok (.putfield index, 3)) (e : h9 = pR h c k p x) (kk : zQ (EH h9) G X cl sl (pc + 3) L st) : zQ (EH h) G X cl sl pc L (zrf x :: zrf p :: st) := fun h1 hI0 hw => by
  have e0 : h = h1 := (hI0 : h1 = h).symm
  subst e0
  exact zs_putR o fl hf hfin hd (kd_e g) (of_decide_eq_true g2) (kk _ e.symm hw)
theorem zh_putRF (o : zOk G X cc own nL fr lo mc ms) {index c k p : Nat} {x : Nat} (hin : (Xt X).name = "<init>") (g : kd h p c = true) (g2 : wr h p = true) (fl : zFL own index c k) (hf : zfk c k = 1) (hfin : ((zq c).2.1 k).2.2.2 = true ∧ ((zq c).2.1 k).1 = own) (hd : decode cc pc = .ok (.putfield index, 3)) (e : h9 = pR h c k p x) (kk : zQ (EH h9) G X cl sl (pc + 3) L st) : zQ (EH h) G X cl sl pc L (zrf x :: zrf p :: st) := fun h1 hI0 hw => by
  have e0 : h = h1 := (hI0 : h1 = h).symm
  subst e0
  exact zs_putRF o hin fl hf hfin hd (kd_e g) (of_decide_eq_true g2) (kk _ e.symm hw)
theorem zh_getL (o : zOk G X cc own nL fr lo mc ms) {index c k p : Nat} (g : kd h p c = true) (fl : zFL own index c k) (hf : zfk c k = 2) (hd : decode cc pc = .ok (.getfield index, 3)) (kk : zQ (EH h) G X cl sl (pc + 3) L (.long (hL h c k p) :: st)) : zQ (EH h) G X cl sl pc L (zrf p :: st) := fun h1 hI0 hw => by
  have e0 : h = h1 := (hI0 : h1 = h).symm
  subst e0
  exact zs_getL o fl hf hd (kd_e g) (kk _ rfl hw)
theorem zh_putL (o : zOk G X cc own nL fr lo mc ms) {index c k p : Nat} {x : Int64} (g : kd h p c = true) (g2 : wr h p = true) (fl : zFL own index c k) (hf : zfk c k = 2) (hfin : ((zq c).2.1 k).2.2.2 = false) (hd : decode cc pc = .ok (.putfield index, 3)) (e : h9 = pL h c k p x) (kk : zQ (EH h9) G X cl sl (pc + 3) L st) : zQ (EH h) G X cl sl pc L (.long x :: zrf p :: st) := fun h1 hI0 hw => by
  have e0 : h = h1 := (hI0 : h1 = h).symm
  subst e0
  exact zs_putL o fl hf hfin hd (kd_e g) (of_decide_eq_true g2) (kk _ e.symm hw)
theorem zh_putLF (o : zOk G X cc own nL fr lo mc ms) {index c k p : Nat} {x : Int64} (hin : (Xt X).name = "<init>") (g : kd h p c = true) (g2 : wr h p = true) (fl : zFL own index c k) (hf : zfk c k = 2) (hfin : ((zq c).2.1 k).2.2.2 = true ∧ ((zq c).2.1 k).1 = own) (hd : decode cc pc = .ok (.putfield index, 3)) (e : h9 = pL h c k p x) (kk : zQ (EH h9) G X cl sl (pc + 3) L st) : zQ (EH h) G X cl sl pc L (.long x :: zrf p :: st) := fun h1 hI0 hw => by
  have e0 : h = h1 := (hI0 : h1 = h).symm
  subst e0
  exact zs_putLF o hin fl hf hfin hd (kd_e g) (of_decide_eq_true g2) (kk _ e.symm hw)
theorem zh_iald (o : zOk G X cc own nL fr lo mc ms) {p : Nat} {i : Int32} (g : kd h p 201 = true) (g2 : inb i (zN h p) = true) (hd : decode cc pc = .ok (.iaload, 1)) (kk : zQ (EH h) G X cl sl (pc + 1) L (.int (hI h 201 (ix i) p) :: st)) : zQ (EH h) G X cl sl pc L (.int i :: zrf p :: st) := fun h1 hI0 hw => by
  have e0 : h = h1 := (hI0 : h1 = h).symm
  subst e0
  exact zs_iaload o hd (kd_e g) (inb_e g2) (kk _ rfl hw)
theorem zh_bald (o : zOk G X cc own nL fr lo mc ms) {p : Nat} {i : Int32} (g : kd h p 202 = true) (g2 : inb i (zN h p) = true) (hd : decode cc pc = .ok (.baload, 1)) (kk : zQ (EH h) G X cl sl (pc + 1) L (.int (hI h 202 (ix i) p) :: st)) : zQ (EH h) G X cl sl pc L (.int i :: zrf p :: st) := fun h1 hI0 hw => by
  have e0 : h = h1 := (hI0 : h1 = h).symm
  subst e0
  exact zs_baload o hd (kd_e g) (inb_e g2) (kk _ rfl hw)
theorem zh_yald (o : zOk G X cc own nL fr lo mc ms) {p : Nat} {i : Int32} (g : kd h p 207 = true) (g2 : inb i (zN h p) = true) (hd : decode cc pc = .ok (.baload, 1)) (kk : zQ (EH h) G X cl sl (pc + 1) L (.int (hI h 207 (ix i) p) :: st)) : zQ (EH h) G X cl sl pc L (.int i :: zrf p :: st) := fun h1 hI0 hw => by
  have e0 : h = h1 := (hI0 : h1 = h).symm
  subst e0
  exact zs_baloadB o hd (kd_e g) (inb_e g2) (kk _ rfl hw)
theorem zh_lald (o : zOk G X cc own nL fr lo mc ms) {p : Nat} {i : Int32} (g : kd h p 203 = true) (g2 : inb i (zN h p) = true) (hd : decode cc pc = .ok (.laload, 1)) (kk : zQ (EH h) G X cl sl (pc + 1) L (.long (hL h 203 (ix i) p) :: st)) : zQ (EH h) G X cl sl pc L (.int i :: zrf p :: st) := fun h1 hI0 hw => by
  have e0 : h = h1 := (hI0 : h1 = h).symm
  subst e0
  exact zs_laload o hd (kd_e g) (inb_e g2) (kk _ rfl hw)
theorem zh_aald (o : zOk G X cc own nL fr lo mc ms) {c p : Nat} {i : Int32} (hc : c = 205 ∨ c = 206 ∨ c = 208) (g : kd h p c = true) (g2 : inb i (zN h p) = true) (hd : decode cc pc = .ok (.aaload, 1)) (kk : zQ (EH h) G X cl sl (pc + 1) L (zrf (hR h c (ix i) p) :: st)) : zQ (EH h) G X cl sl pc L (.int i :: zrf p :: st) := fun h1 hI0 hw => by
  have e0 : h = h1 := (hI0 : h1 = h).symm
  subst e0
  exact zs_aaload o hc hd (kd_e g) (inb_e g2) (kk _ rfl hw)
theorem zh_iast (o : zOk G X cc own nL fr lo mc ms) {p : Nat} {i x : Int32} (g : kd h p 201 = true) (g3 : wr h p = true) (g2 : inb i (zN h p) = true) (hd : decode cc pc = .ok (.iastore, 1)) (e : h9 = pI h 201 (ix i) p x) (kk : zQ (EH h9) G X cl sl (pc + 1) L st) : zQ (EH h) G X cl sl pc L (.int x :: .int i :: zrf p :: st) := fun h1 hI0 hw => by
  have e0 : h = h1 := (hI0 : h1 = h).symm
  subst e0
  exact zs_iastore o hd (kd_e g) (of_decide_eq_true g3) (inb_e g2) (kk _ e.symm hw)
theorem zh_last (o : zOk G X cc own nL fr lo mc ms) {p : Nat} {i : Int32} {x : Int64} (g : kd h p 203 = true) (g3 : wr h p = true) (g2 : inb i (zN h p) = true) (hd : decode cc pc = .ok (.lastore, 1)) (e : h9 = pL h 203 (ix i) p x) (kk : zQ (EH h9) G X cl sl (pc + 1) L st) : zQ (EH h) G X cl sl pc L (.long x :: .int i :: zrf p :: st) := fun h1 hI0 hw => by
  have e0 : h = h1 := (hI0 : h1 = h).symm
  subst e0
  exact zs_lastore o hd (kd_e g) (of_decide_eq_true g3) (inb_e g2) (kk _ e.symm hw)
theorem zh_aast (o : zOk G X cc own nL fr lo mc ms) {p x : Nat} {i : Int32} (g : kd h p 205 = true) (g3 : wr h p = true) (g2 : inb i (zN h p) = true) (g4 : oka h x = true) (hd : decode cc pc = .ok (.aastore, 1)) (e : h9 = pR h 205 (ix i) p x) (kk : zQ (EH h9) G X cl sl (pc + 1) L st) : zQ (EH h) G X cl sl pc L (zrf x :: .int i :: zrf p :: st) := fun h1 hI0 hw => by
  have e0 : h = h1 := (hI0 : h1 = h).symm
  subst e0
  by_cases hx : x = 0
  · subst hx
    exact zs_aastoreN o hd (kd_e g) (of_decide_eq_true g3) (inb_e g2) (kk _ e.symm hw)
  · have g5 : zcs.contains (zK h x).1 = true := by
      unfold oka at g4
      rw [Bool.or_eq_true] at g4
      rcases g4 with g4 | g4
      · exact absurd (by simpa using g4) hx
      · exact g4
    obtain ⟨q1, q2, q3⟩ := zcs_ok _ (List.contains_iff_mem.mp g5)
    exact zs_aastoreO o q1 q2 q3 hd (kd_e g) (of_decide_eq_true g3) (inb_e g2) (c' := (zK h x).1) (r' := (zK h x).2) rfl (kk _ e.symm hw)
theorem zh_alen (o : zOk G X cc own nL fr lo mc ms) {p : Nat} (g : isA h p = true) (hd : decode cc pc = .ok (.arraylength, 1)) (kk : zQ (EH h) G X cl sl (pc + 1) L (.int (nI (zN h p)) :: st)) : zQ (EH h) G X cl sl pc L (zrf p :: st) := fun h1 hI0 hw => by
  have e0 : h = h1 := (hI0 : h1 = h).symm
  subst e0
  exact zs_alen o (c := (zK h p).1) (r := (zK h p).2) (of_decide_eq_true g) hd rfl (kk _ rfl hw)
theorem zh_new (o : zOk G X cc own nL fr lo mc ms) {index c r N : Nat} (lk : zNL own index c) (hN : (zq c).2.2 = N) (hd : decode cc pc = .ok (.new index, 3)) (hc : cl + 1 ≤ mc) (hs : sl + N ≤ ms) (e : h9 = nw h c r 0) (kk : zQ (EH h9) G X (cl + 1) (sl + N) (pc + 3) L (zrf (zT h + 1) :: st)) : zQ (EH h) G X cl sl pc L (st) := fun h1 hI0 hw => by
  have e0 : h = h1 := (hI0 : h1 = h).symm
  subst e0
  subst hN
  exact zs_new o lk hd hc hs (kk _ e.symm (zWf_nw hw))
theorem zh_newO (o : zOk G X cc own nL fr lo mc ms) {index r N : Nat} {n : Int32} (lk : Cond.classLink own index "java/lang/Object" ∈ lw_all) (hn : ¬ n < 0) (hN : n.toNatClampNeg = N) (hb : N ≤ 60000000) (hd : decode cc pc = .ok (.anewarray index, 3)) (hc : cl + 1 ≤ mc) (hs : sl + N ≤ ms) (e : h9 = nw h 205 r N) (kk : zQ (EH h9) G X (cl + 1) (sl + N) (pc + 3) L (zrf (zT h + 1) :: st)) : zQ (EH h) G X cl sl pc L (.int n :: st) := fun h1 hI0 hw => by
  have e0 : h = h1 := (hI0 : h1 = h).symm
  subst e0
  exact zs_newO o lk hn hN hb hd hc hs (kk _ e.symm (zWf_nw hw))
theorem zh_newarr (o : zOk G X cc own nL fr lo mc ms) {c r N : Nat} {n : Int32} {atype : ArrayType} (hc2 : c = 201 ∨ c = 202 ∨ c = 203 ∨ c = 204) (ha : newarray.typeOf atype = zaty c) (lk : Cond.arrayClass (zaty c) ∈ lw_all) (hn : ¬ n < 0) (hN : n.toNatClampNeg = N) (hb : N ≤ 60000000) (hd : decode cc pc = .ok (.newarray atype, 2)) (hc : cl + 1 ≤ mc) (hs : sl + N ≤ ms) (e : h9 = nw h c r N) (kk : zQ (EH h9) G X (cl + 1) (sl + N) (pc + 2) L (zrf (zT h + 1) :: st)) : zQ (EH h) G X cl sl pc L (.int n :: st) := fun h1 hI0 hw => by
  have e0 : h = h1 := (hI0 : h1 = h).symm
  subst e0
  exact zs_newarr o hc2 ha lk hn hN hb hd hc hs (kk _ e.symm (zWf_nw hw))
theorem zh_cast (o : zOk G X cc own nL fr lo mc ms) {index c p : Nat} (lk : Cond.classLink own index (zq c).1 ∈ lw_all) (h0 : c ≠ 0) (h1 : c < 21) (g : kd h p c = true) (hd : decode cc pc = .ok (.checkcast index, 3)) (kk : zQ (EH h) G X cl sl (pc + 3) L (zrf p :: st)) : zQ (EH h) G X cl sl pc L (zrf p :: st) := fun h1 hI0 hw => by
  have e0 : h = h1 := (hI0 : h1 = h).symm
  subst e0
  exact zs_cast o lk h0 h1 hd (kd_e g) (kk _ rfl hw)
theorem zh_inst (o : zOk G X cc own nL fr lo mc ms) {index c p : Nat} (lk : Cond.classLink own index (zq c).1 ∈ lw_all) (h0 : c ≠ 0) (h1 : c < 21) (g : kd h p c = true) (hd : decode cc pc = .ok (.instanceof index, 3)) (kk : zQ (EH h) G X cl sl (pc + 3) L (.int 1 :: st)) : zQ (EH h) G X cl sl pc L (zrf p :: st) := fun h1 hI0 hw => by
  have e0 : h = h1 := (hI0 : h1 = h).symm
  subst e0
  exact zs_inst o lk h0 h1 hd (kd_e g) (kk _ rfl hw)
theorem zh_objInit (o : zOk G X cc own nL fr lo mc ms) {index p : Nat} (hp0 : nzr p = true) (lk : Cond.methodLink own index Lib.objectInit ∈ lw_all) (lk2 : Cond.instanceMethod Lib.objectInit ∈ lw_all) (lk3 : Cond.code Lib.objectInit ⟨#[0xb1]⟩ 1 none ∈ lw_all) (hd : decode cc pc = .ok (.invokespecial index, 3)) (hb : (Nat.ble 1 fr && Nat.ble (8 + 12) lo) = true) (hr : Nat.ble st.length 4 = true) (kk : zQ (EH h) G X cl sl (pc + 3) L st) : zQ (EH h) G X cl sl pc L (zrf p :: st) := fun h1 hI0 hw => by
  have e0 : h = h1 := (hI0 : h1 = h).symm
  subst e0
  exact zs_objInit o (of_decide_eq_true hp0) lk lk2 lk3 hd hb hr (kk _ rfl hw)
end ZH
def zJi (G : zG) (y : MethodName) (cc : ByteArray) (maxL : Nat) (ret : Option FieldType) (fr mc ms : Nat) (args : List Value) (h : zH) (V : Int32) (h9 : zH) : Prop := zCo G y cc maxL ret fr mc ms args h (zPi fun x h' => x = V ∧ h' = h9) zNX
def zJl (G : zG) (y : MethodName) (cc : ByteArray) (maxL : Nat) (ret : Option FieldType) (fr mc ms : Nat) (args : List Value) (h : zH) (V : Int64) (h9 : zH) : Prop := zCo G y cc maxL ret fr mc ms args h (zPl fun x h' => x = V ∧ h' = h9) zNX
def zJr (G : zG) (y : MethodName) (cc : ByteArray) (maxL : Nat) (ret : Option FieldType) (fr mc ms : Nat) (args : List Value) (h : zH) (V : Nat) (h9 : zH) : Prop := zCo G y cc maxL ret fr mc ms args h (zPr fun x h' => x = V ∧ h' = h9) zNX
def zJv (G : zG) (y : MethodName) (cc : ByteArray) (maxL : Nat) (ret : Option FieldType) (fr mc ms : Nat) (args : List Value) (h h9 : zH) : Prop := zCo G y cc maxL ret fr mc ms args h (zPv fun h' => h' = h9) zNX
section ZHC
variable {h h9 : zH} {G : zG} {X : zX} {cc : ByteArray} {own : String} {nL fr lo mc ms cl sl pc : Nat} {L : List (Option Value)} {y : MethodName} {bytes : ByteArray} {maxL m index fr' mc' ms' : Nat} {As rest st0 : List Value} {p : Nat}
theorem zh_Vi (o : zOk G X cc own nL fr lo mc ms) {V : Int32} {ret : Option FieldType} {c : Nat} (g : kd h p c = true) (lk : zLV own index c y bytes maxL ret m) (hM : zJi G y bytes maxL ret fr' mc' ms' (zrf p :: As) h V h9) (hd : decode cc pc = .ok (.invokevirtual index, 3)) (hst : st0 = As.reverse ++ zrf p :: rest) (hn : As.length = m)
    (hb : (Nat.ble (fr' + 1) fr && Nat.ble (8 + (maxL + 11) + 64 * fr') lo) = true) (hrest : Nat.ble rest.length 4 = true) (hcl : cl + mc' ≤ mc) (hsl : sl + ms' ≤ ms) (kk : zQ (EH h9) G X (cl + mc') (sl + ms') (pc + 3) L (.int V :: rest)) : zQ (EH h) G X cl sl pc L st0 := fun h1 hI0 hw => by
  have e0 : h = h1 := (hI0 : h1 = h).symm
  subst e0
  exact zc_V o (kd_e g) lk hM hd hst hn hb hrest hcl hsl (fun _ _ h _ => h.elim) (fun v h' hv hw' => by obtain ⟨x, rfl, hp⟩ := hv; rw [hp.1]; exact kk h' hp.2 hw')
theorem zh_Vl (o : zOk G X cc own nL fr lo mc ms) {V : Int64} {ret : Option FieldType} {c : Nat} (g : kd h p c = true) (lk : zLV own index c y bytes maxL ret m) (hM : zJl G y bytes maxL ret fr' mc' ms' (zrf p :: As) h V h9) (hd : decode cc pc = .ok (.invokevirtual index, 3)) (hst : st0 = As.reverse ++ zrf p :: rest) (hn : As.length = m)
    (hb : (Nat.ble (fr' + 1) fr && Nat.ble (8 + (maxL + 11) + 64 * fr') lo) = true) (hrest : Nat.ble rest.length 4 = true) (hcl : cl + mc' ≤ mc) (hsl : sl + ms' ≤ ms) (kk : zQ (EH h9) G X (cl + mc') (sl + ms') (pc + 3) L (.long V :: rest)) : zQ (EH h) G X cl sl pc L st0 := fun h1 hI0 hw => by
  have e0 : h = h1 := (hI0 : h1 = h).symm
  subst e0
  exact zc_V o (kd_e g) lk hM hd hst hn hb hrest hcl hsl (fun _ _ h _ => h.elim) (fun v h' hv hw' => by obtain ⟨x, rfl, hp⟩ := hv; rw [hp.1]; exact kk h' hp.2 hw')
theorem zh_Vr (o : zOk G X cc own nL fr lo mc ms) {V : Nat} {ret : Option FieldType} {c : Nat} (g : kd h p c = true) (lk : zLV own index c y bytes maxL ret m) (hM : zJr G y bytes maxL ret fr' mc' ms' (zrf p :: As) h V h9) (hd : decode cc pc = .ok (.invokevirtual index, 3)) (hst : st0 = As.reverse ++ zrf p :: rest) (hn : As.length = m)
    (hb : (Nat.ble (fr' + 1) fr && Nat.ble (8 + (maxL + 11) + 64 * fr') lo) = true) (hrest : Nat.ble rest.length 4 = true) (hcl : cl + mc' ≤ mc) (hsl : sl + ms' ≤ ms) (kk : zQ (EH h9) G X (cl + mc') (sl + ms') (pc + 3) L (zrf V :: rest)) : zQ (EH h) G X cl sl pc L st0 := fun h1 hI0 hw => by
  have e0 : h = h1 := (hI0 : h1 = h).symm
  subst e0
  exact zc_V o (kd_e g) lk hM hd hst hn hb hrest hcl hsl (fun _ _ h _ => h.elim) (fun v h' hv hw' => by obtain ⟨x, rfl, hp⟩ := hv; rw [hp.1]; exact kk h' hp.2 hw')
theorem zh_Vv (o : zOk G X cc own nL fr lo mc ms) {ret : Option FieldType} {c : Nat} (g : kd h p c = true) (lk : zLV own index c y bytes maxL ret m) (hM : zJv G y bytes maxL ret fr' mc' ms' (zrf p :: As) h h9) (hd : decode cc pc = .ok (.invokevirtual index, 3)) (hst : st0 = As.reverse ++ zrf p :: rest) (hn : As.length = m)
    (hb : (Nat.ble (fr' + 1) fr && Nat.ble (8 + (maxL + 11) + 64 * fr') lo) = true) (hrest : Nat.ble rest.length 4 = true) (hcl : cl + mc' ≤ mc) (hsl : sl + ms' ≤ ms) (kk : zQ (EH h9) G X (cl + mc') (sl + ms') (pc + 3) L rest) : zQ (EH h) G X cl sl pc L st0 := fun h1 hI0 hw => by
  have e0 : h = h1 := (hI0 : h1 = h).symm
  subst e0
  exact zc_V o (kd_e g) lk hM hd hst hn hb hrest hcl hsl (fun _ _ h _ => h.elim) (fun v h' hv hw' => by obtain ⟨rfl, hp⟩ := hv; exact kk h' hp hw')
theorem zh_Si (o : zOk G X cc own nL fr lo mc ms) {V : Int32} {ret : Option FieldType} (lk : zLS own index y bytes maxL ret m) (hM : zJi G y bytes maxL ret fr' mc' ms' As h V h9) (hd : decode cc pc = .ok (.invokestatic index, 3)) (hst : st0 = As.reverse ++ rest) (hn : As.length = m)
    (hb : (Nat.ble (fr' + 1) fr && Nat.ble (8 + (maxL + 11) + 64 * fr') lo) = true) (hrest : Nat.ble rest.length 4 = true) (hcl : cl + mc' ≤ mc) (hsl : sl + ms' ≤ ms) (kk : zQ (EH h9) G X (cl + mc') (sl + ms') (pc + 3) L (.int V :: rest)) : zQ (EH h) G X cl sl pc L st0 := fun h1 hI0 hw => by
  have e0 : h = h1 := (hI0 : h1 = h).symm
  subst e0
  exact zc_S o lk hM hd hst hn hb hrest hcl hsl (fun _ _ h _ => h.elim) (fun v h' hv hw' => by obtain ⟨x, rfl, hp⟩ := hv; rw [hp.1]; exact kk h' hp.2 hw')
theorem zh_Sl (o : zOk G X cc own nL fr lo mc ms) {V : Int64} {ret : Option FieldType} (lk : zLS own index y bytes maxL ret m) (hM : zJl G y bytes maxL ret fr' mc' ms' As h V h9) (hd : decode cc pc = .ok (.invokestatic index, 3)) (hst : st0 = As.reverse ++ rest) (hn : As.length = m)
    (hb : (Nat.ble (fr' + 1) fr && Nat.ble (8 + (maxL + 11) + 64 * fr') lo) = true) (hrest : Nat.ble rest.length 4 = true) (hcl : cl + mc' ≤ mc) (hsl : sl + ms' ≤ ms) (kk : zQ (EH h9) G X (cl + mc') (sl + ms') (pc + 3) L (.long V :: rest)) : zQ (EH h) G X cl sl pc L st0 := fun h1 hI0 hw => by
  have e0 : h = h1 := (hI0 : h1 = h).symm
  subst e0
  exact zc_S o lk hM hd hst hn hb hrest hcl hsl (fun _ _ h _ => h.elim) (fun v h' hv hw' => by obtain ⟨x, rfl, hp⟩ := hv; rw [hp.1]; exact kk h' hp.2 hw')
theorem zh_Sr (o : zOk G X cc own nL fr lo mc ms) {V : Nat} {ret : Option FieldType} (lk : zLS own index y bytes maxL ret m) (hM : zJr G y bytes maxL ret fr' mc' ms' As h V h9) (hd : decode cc pc = .ok (.invokestatic index, 3)) (hst : st0 = As.reverse ++ rest) (hn : As.length = m)
    (hb : (Nat.ble (fr' + 1) fr && Nat.ble (8 + (maxL + 11) + 64 * fr') lo) = true) (hrest : Nat.ble rest.length 4 = true) (hcl : cl + mc' ≤ mc) (hsl : sl + ms' ≤ ms) (kk : zQ (EH h9) G X (cl + mc') (sl + ms') (pc + 3) L (zrf V :: rest)) : zQ (EH h) G X cl sl pc L st0 := fun h1 hI0 hw => by
  have e0 : h = h1 := (hI0 : h1 = h).symm
  subst e0
  exact zc_S o lk hM hd hst hn hb hrest hcl hsl (fun _ _ h _ => h.elim) (fun v h' hv hw' => by obtain ⟨x, rfl, hp⟩ := hv; rw [hp.1]; exact kk h' hp.2 hw')
theorem zh_Sv (o : zOk G X cc own nL fr lo mc ms) {ret : Option FieldType} (lk : zLS own index y bytes maxL ret m) (hM : zJv G y bytes maxL ret fr' mc' ms' As h h9) (hd : decode cc pc = .ok (.invokestatic index, 3)) (hst : st0 = As.reverse ++ rest) (hn : As.length = m)
    (hb : (Nat.ble (fr' + 1) fr && Nat.ble (8 + (maxL + 11) + 64 * fr') lo) = true) (hrest : Nat.ble rest.length 4 = true) (hcl : cl + mc' ≤ mc) (hsl : sl + ms' ≤ ms) (kk : zQ (EH h9) G X (cl + mc') (sl + ms') (pc + 3) L rest) : zQ (EH h) G X cl sl pc L st0 := fun h1 hI0 hw => by
  have e0 : h = h1 := (hI0 : h1 = h).symm
  subst e0
  exact zc_S o lk hM hd hst hn hb hrest hcl hsl (fun _ _ h _ => h.elim) (fun v h' hv hw' => by obtain ⟨rfl, hp⟩ := hv; exact kk h' hp hw')
theorem zh_Ni (o : zOk G X cc own nL fr lo mc ms) {V : Int32} {ret : Option FieldType} (lk : zLN own index y bytes maxL ret m) (hM : zJi G y bytes maxL ret fr' mc' ms' As h V h9) (hd : decode cc pc = .ok (.invokestatic index, 3)) (hst : st0 = As.reverse ++ rest) (hn : As.length = m)
    (hb : (Nat.ble (fr' + 1) fr && Nat.ble (8 + (maxL + 11) + 64 * fr') lo) = true) (hrest : Nat.ble rest.length 4 = true) (hcl : cl + mc' ≤ mc) (hsl : sl + ms' ≤ ms) (kk : zQ (EH h9) G X (cl + mc') (sl + ms') (pc + 3) L (.int V :: rest)) : zQ (EH h) G X cl sl pc L st0 := fun h1 hI0 hw => by
  have e0 : h = h1 := (hI0 : h1 = h).symm
  subst e0
  exact zc_N o lk hM hd hst hn hb hrest hcl hsl (fun _ _ h _ => h.elim) (fun v h' hv hw' => by obtain ⟨x, rfl, hp⟩ := hv; rw [hp.1]; exact kk h' hp.2 hw')
theorem zh_Nl (o : zOk G X cc own nL fr lo mc ms) {V : Int64} {ret : Option FieldType} (lk : zLN own index y bytes maxL ret m) (hM : zJl G y bytes maxL ret fr' mc' ms' As h V h9) (hd : decode cc pc = .ok (.invokestatic index, 3)) (hst : st0 = As.reverse ++ rest) (hn : As.length = m)
    (hb : (Nat.ble (fr' + 1) fr && Nat.ble (8 + (maxL + 11) + 64 * fr') lo) = true) (hrest : Nat.ble rest.length 4 = true) (hcl : cl + mc' ≤ mc) (hsl : sl + ms' ≤ ms) (kk : zQ (EH h9) G X (cl + mc') (sl + ms') (pc + 3) L (.long V :: rest)) : zQ (EH h) G X cl sl pc L st0 := fun h1 hI0 hw => by
  have e0 : h = h1 := (hI0 : h1 = h).symm
  subst e0
  exact zc_N o lk hM hd hst hn hb hrest hcl hsl (fun _ _ h _ => h.elim) (fun v h' hv hw' => by obtain ⟨x, rfl, hp⟩ := hv; rw [hp.1]; exact kk h' hp.2 hw')
theorem zh_Nr (o : zOk G X cc own nL fr lo mc ms) {V : Nat} {ret : Option FieldType} (lk : zLN own index y bytes maxL ret m) (hM : zJr G y bytes maxL ret fr' mc' ms' As h V h9) (hd : decode cc pc = .ok (.invokestatic index, 3)) (hst : st0 = As.reverse ++ rest) (hn : As.length = m)
    (hb : (Nat.ble (fr' + 1) fr && Nat.ble (8 + (maxL + 11) + 64 * fr') lo) = true) (hrest : Nat.ble rest.length 4 = true) (hcl : cl + mc' ≤ mc) (hsl : sl + ms' ≤ ms) (kk : zQ (EH h9) G X (cl + mc') (sl + ms') (pc + 3) L (zrf V :: rest)) : zQ (EH h) G X cl sl pc L st0 := fun h1 hI0 hw => by
  have e0 : h = h1 := (hI0 : h1 = h).symm
  subst e0
  exact zc_N o lk hM hd hst hn hb hrest hcl hsl (fun _ _ h _ => h.elim) (fun v h' hv hw' => by obtain ⟨x, rfl, hp⟩ := hv; rw [hp.1]; exact kk h' hp.2 hw')
theorem zh_Nv (o : zOk G X cc own nL fr lo mc ms) {ret : Option FieldType} (lk : zLN own index y bytes maxL ret m) (hM : zJv G y bytes maxL ret fr' mc' ms' As h h9) (hd : decode cc pc = .ok (.invokestatic index, 3)) (hst : st0 = As.reverse ++ rest) (hn : As.length = m)
    (hb : (Nat.ble (fr' + 1) fr && Nat.ble (8 + (maxL + 11) + 64 * fr') lo) = true) (hrest : Nat.ble rest.length 4 = true) (hcl : cl + mc' ≤ mc) (hsl : sl + ms' ≤ ms) (kk : zQ (EH h9) G X (cl + mc') (sl + ms') (pc + 3) L rest) : zQ (EH h) G X cl sl pc L st0 := fun h1 hI0 hw => by
  have e0 : h = h1 := (hI0 : h1 = h).symm
  subst e0
  exact zc_N o lk hM hd hst hn hb hrest hcl hsl (fun _ _ h _ => h.elim) (fun v h' hv hw' => by obtain ⟨rfl, hp⟩ := hv; exact kk h' hp hw')
theorem zh_Iv (o : zOk G X cc own nL fr lo mc ms) (g : nzr p = true) (lk : zLI own index y bytes maxL m) (hM : zJv G y bytes maxL none fr' mc' ms' (zrf p :: As) h h9) (hd : decode cc pc = .ok (.invokespecial index, 3)) (hst : st0 = As.reverse ++ zrf p :: rest) (hn : As.length = m)
    (hb : (Nat.ble (fr' + 1) fr && Nat.ble (8 + (maxL + 11) + 64 * fr') lo) = true) (hrest : Nat.ble rest.length 4 = true) (hcl : cl + mc' ≤ mc) (hsl : sl + ms' ≤ ms) (kk : zQ (EH h9) G X (cl + mc') (sl + ms') (pc + 3) L rest) : zQ (EH h) G X cl sl pc L st0 := fun h1 hI0 hw => by
  have e0 : h = h1 := (hI0 : h1 = h).symm
  subst e0
  exact zc_I o (of_decide_eq_true g) lk hM hd hst hn hb hrest hcl hsl (fun _ _ h _ => h.elim) (fun v h' hv hw' => by obtain ⟨rfl, hp⟩ := hv; exact kk h' hp hw')
theorem zh_Ui (o : zOk G X cc own nL fr lo mc ms) {V : Int32} {ret : Option FieldType} {c : Nat} {xx : MethodName} {owner : String} (g : kd h p c = true) (lk : zLU own index c owner xx y bytes maxL ret m) (hM : zJi G y bytes maxL ret fr' mc' ms' (zrf p :: As) h V h9) (hd : decode cc pc = .ok (.invokevirtual index, 3)) (hst : st0 = As.reverse ++ zrf p :: rest) (hn : As.length = m)
    (hb : (Nat.ble (fr' + 1) fr && Nat.ble (8 + (maxL + 11) + 64 * fr') lo) = true) (hrest : Nat.ble rest.length 4 = true) (hcl : cl + mc' ≤ mc) (hsl : sl + ms' ≤ ms) (kk : zQ (EH h9) G X (cl + mc') (sl + ms') (pc + 3) L (.int V :: rest)) : zQ (EH h) G X cl sl pc L st0 := fun h1 hI0 hw => by
  have e0 : h = h1 := (hI0 : h1 = h).symm
  subst e0
  exact zc_U o (kd_e g) lk hM hd hst hn hb hrest hcl hsl (fun _ _ h _ => h.elim) (fun v h' hv hw' => by obtain ⟨x, rfl, hp⟩ := hv; rw [hp.1]; exact kk h' hp.2 hw')
theorem zh_Ul (o : zOk G X cc own nL fr lo mc ms) {V : Int64} {ret : Option FieldType} {c : Nat} {xx : MethodName} {owner : String} (g : kd h p c = true) (lk : zLU own index c owner xx y bytes maxL ret m) (hM : zJl G y bytes maxL ret fr' mc' ms' (zrf p :: As) h V h9) (hd : decode cc pc = .ok (.invokevirtual index, 3)) (hst : st0 = As.reverse ++ zrf p :: rest) (hn : As.length = m)
    (hb : (Nat.ble (fr' + 1) fr && Nat.ble (8 + (maxL + 11) + 64 * fr') lo) = true) (hrest : Nat.ble rest.length 4 = true) (hcl : cl + mc' ≤ mc) (hsl : sl + ms' ≤ ms) (kk : zQ (EH h9) G X (cl + mc') (sl + ms') (pc + 3) L (.long V :: rest)) : zQ (EH h) G X cl sl pc L st0 := fun h1 hI0 hw => by
  have e0 : h = h1 := (hI0 : h1 = h).symm
  subst e0
  exact zc_U o (kd_e g) lk hM hd hst hn hb hrest hcl hsl (fun _ _ h _ => h.elim) (fun v h' hv hw' => by obtain ⟨x, rfl, hp⟩ := hv; rw [hp.1]; exact kk h' hp.2 hw')
theorem zh_Ur (o : zOk G X cc own nL fr lo mc ms) {V : Nat} {ret : Option FieldType} {c : Nat} {xx : MethodName} {owner : String} (g : kd h p c = true) (lk : zLU own index c owner xx y bytes maxL ret m) (hM : zJr G y bytes maxL ret fr' mc' ms' (zrf p :: As) h V h9) (hd : decode cc pc = .ok (.invokevirtual index, 3)) (hst : st0 = As.reverse ++ zrf p :: rest) (hn : As.length = m)
    (hb : (Nat.ble (fr' + 1) fr && Nat.ble (8 + (maxL + 11) + 64 * fr') lo) = true) (hrest : Nat.ble rest.length 4 = true) (hcl : cl + mc' ≤ mc) (hsl : sl + ms' ≤ ms) (kk : zQ (EH h9) G X (cl + mc') (sl + ms') (pc + 3) L (zrf V :: rest)) : zQ (EH h) G X cl sl pc L st0 := fun h1 hI0 hw => by
  have e0 : h = h1 := (hI0 : h1 = h).symm
  subst e0
  exact zc_U o (kd_e g) lk hM hd hst hn hb hrest hcl hsl (fun _ _ h _ => h.elim) (fun v h' hv hw' => by obtain ⟨x, rfl, hp⟩ := hv; rw [hp.1]; exact kk h' hp.2 hw')
theorem zh_Uv (o : zOk G X cc own nL fr lo mc ms) {ret : Option FieldType} {c : Nat} {xx : MethodName} {owner : String} (g : kd h p c = true) (lk : zLU own index c owner xx y bytes maxL ret m) (hM : zJv G y bytes maxL ret fr' mc' ms' (zrf p :: As) h h9) (hd : decode cc pc = .ok (.invokevirtual index, 3)) (hst : st0 = As.reverse ++ zrf p :: rest) (hn : As.length = m)
    (hb : (Nat.ble (fr' + 1) fr && Nat.ble (8 + (maxL + 11) + 64 * fr') lo) = true) (hrest : Nat.ble rest.length 4 = true) (hcl : cl + mc' ≤ mc) (hsl : sl + ms' ≤ ms) (kk : zQ (EH h9) G X (cl + mc') (sl + ms') (pc + 3) L rest) : zQ (EH h) G X cl sl pc L st0 := fun h1 hI0 hw => by
  have e0 : h = h1 := (hI0 : h1 = h).symm
  subst e0
  exact zc_U o (kd_e g) lk hM hd hst hn hb hrest hcl hsl (fun _ _ h _ => h.elim) (fun v h' hv hw' => by obtain ⟨rfl, hp⟩ := hv; exact kk h' hp hw')
theorem zh_Fi (o : zOk G X cc own nL fr lo mc ms) {V : Int32} {ret : Option FieldType} {c : Nat} {xx : MethodName} {count : Nat} (g : kd h p c = true) (lk : zLF own index c xx y bytes maxL ret m) (hM : zJi G y bytes maxL ret fr' mc' ms' (zrf p :: As) h V h9) (hd : decode cc pc = .ok (.invokeinterface index count, 5)) (hst : st0 = As.reverse ++ zrf p :: rest) (hn : As.length = m)
    (hb : (Nat.ble (fr' + 1) fr && Nat.ble (8 + (maxL + 11) + 64 * fr') lo) = true) (hrest : Nat.ble rest.length 4 = true) (hcl : cl + mc' ≤ mc) (hsl : sl + ms' ≤ ms) (kk : zQ (EH h9) G X (cl + mc') (sl + ms') (pc + 5) L (.int V :: rest)) : zQ (EH h) G X cl sl pc L st0 := fun h1 hI0 hw => by
  have e0 : h = h1 := (hI0 : h1 = h).symm
  subst e0
  exact zc_F o (kd_e g) lk hM hd hst hn hb hrest hcl hsl (fun _ _ h _ => h.elim) (fun v h' hv hw' => by obtain ⟨x, rfl, hp⟩ := hv; rw [hp.1]; exact kk h' hp.2 hw')
theorem zh_Fl (o : zOk G X cc own nL fr lo mc ms) {V : Int64} {ret : Option FieldType} {c : Nat} {xx : MethodName} {count : Nat} (g : kd h p c = true) (lk : zLF own index c xx y bytes maxL ret m) (hM : zJl G y bytes maxL ret fr' mc' ms' (zrf p :: As) h V h9) (hd : decode cc pc = .ok (.invokeinterface index count, 5)) (hst : st0 = As.reverse ++ zrf p :: rest) (hn : As.length = m)
    (hb : (Nat.ble (fr' + 1) fr && Nat.ble (8 + (maxL + 11) + 64 * fr') lo) = true) (hrest : Nat.ble rest.length 4 = true) (hcl : cl + mc' ≤ mc) (hsl : sl + ms' ≤ ms) (kk : zQ (EH h9) G X (cl + mc') (sl + ms') (pc + 5) L (.long V :: rest)) : zQ (EH h) G X cl sl pc L st0 := fun h1 hI0 hw => by
  have e0 : h = h1 := (hI0 : h1 = h).symm
  subst e0
  exact zc_F o (kd_e g) lk hM hd hst hn hb hrest hcl hsl (fun _ _ h _ => h.elim) (fun v h' hv hw' => by obtain ⟨x, rfl, hp⟩ := hv; rw [hp.1]; exact kk h' hp.2 hw')
theorem zh_Fr (o : zOk G X cc own nL fr lo mc ms) {V : Nat} {ret : Option FieldType} {c : Nat} {xx : MethodName} {count : Nat} (g : kd h p c = true) (lk : zLF own index c xx y bytes maxL ret m) (hM : zJr G y bytes maxL ret fr' mc' ms' (zrf p :: As) h V h9) (hd : decode cc pc = .ok (.invokeinterface index count, 5)) (hst : st0 = As.reverse ++ zrf p :: rest) (hn : As.length = m)
    (hb : (Nat.ble (fr' + 1) fr && Nat.ble (8 + (maxL + 11) + 64 * fr') lo) = true) (hrest : Nat.ble rest.length 4 = true) (hcl : cl + mc' ≤ mc) (hsl : sl + ms' ≤ ms) (kk : zQ (EH h9) G X (cl + mc') (sl + ms') (pc + 5) L (zrf V :: rest)) : zQ (EH h) G X cl sl pc L st0 := fun h1 hI0 hw => by
  have e0 : h = h1 := (hI0 : h1 = h).symm
  subst e0
  exact zc_F o (kd_e g) lk hM hd hst hn hb hrest hcl hsl (fun _ _ h _ => h.elim) (fun v h' hv hw' => by obtain ⟨x, rfl, hp⟩ := hv; rw [hp.1]; exact kk h' hp.2 hw')
theorem zh_Fv (o : zOk G X cc own nL fr lo mc ms) {ret : Option FieldType} {c : Nat} {xx : MethodName} {count : Nat} (g : kd h p c = true) (lk : zLF own index c xx y bytes maxL ret m) (hM : zJv G y bytes maxL ret fr' mc' ms' (zrf p :: As) h h9) (hd : decode cc pc = .ok (.invokeinterface index count, 5)) (hst : st0 = As.reverse ++ zrf p :: rest) (hn : As.length = m)
    (hb : (Nat.ble (fr' + 1) fr && Nat.ble (8 + (maxL + 11) + 64 * fr') lo) = true) (hrest : Nat.ble rest.length 4 = true) (hcl : cl + mc' ≤ mc) (hsl : sl + ms' ≤ ms) (kk : zQ (EH h9) G X (cl + mc') (sl + ms') (pc + 5) L rest) : zQ (EH h) G X cl sl pc L st0 := fun h1 hI0 hw => by
  have e0 : h = h1 := (hI0 : h1 = h).symm
  subst e0
  exact zc_F o (kd_e g) lk hM hd hst hn hb hrest hcl hsl (fun _ _ h _ => h.elim) (fun v h' hv hw' => by obtain ⟨rfl, hp⟩ := hv; exact kk h' hp hw')
end ZHC
section ZHE
variable {h h9 : zH} {G : zG} {X : zX} {cc : ByteArray} {own : String} {nL fr lo mc ms cl sl pc : Nat} {L : List (Option Value)}
theorem zh_reti (o : zOk G X cc own nL fr lo mc ms) {ty : FieldType} {v V : Int32} (f : zEnd G X (zPi fun x h' => x = V ∧ h' = h9) mc ms (some ty)) (hd : decode cc pc = .ok (.ireturn, 1)) (hn : narrow ty (.int v) = .int v) (hc : cl ≤ mc) (hs : sl ≤ ms) (e : (h, v) = (h9, V)) : zQ (EH h) G X cl sl pc L [.int v] := fun x hI0 hw =>
  zs_reti o f hd hn hc hs ⟨(Prod.mk.inj e).2, by rw [← (Prod.mk.inj e).1]; exact hI0⟩
theorem zh_retl (o : zOk G X cc own nL fr lo mc ms) {v V : Int64} (f : zEnd G X (zPl fun x h' => x = V ∧ h' = h9) mc ms (some .long)) (hd : decode cc pc = .ok (.lreturn, 1)) (hc : cl ≤ mc) (hs : sl ≤ ms) (e : (h, v) = (h9, V)) : zQ (EH h) G X cl sl pc L [.long v] := fun x hI0 hw =>
  zs_retl o f hd hc hs ⟨(Prod.mk.inj e).2, by rw [← (Prod.mk.inj e).1]; exact hI0⟩
theorem zh_retr (o : zOk G X cc own nL fr lo mc ms) {ty : FieldType} {v V : Nat} (f : zEnd G X (zPr fun x h' => x = V ∧ h' = h9) mc ms (some ty)) (hd : decode cc pc = .ok (.areturn, 1)) (hrt : ty.isReference = true) (hc : cl ≤ mc) (hs : sl ≤ ms) (e : (h, v) = (h9, V)) : zQ (EH h) G X cl sl pc L [zrf v] := fun x hI0 hw =>
  zs_retr o f hd hrt hc hs ⟨(Prod.mk.inj e).2, by rw [← (Prod.mk.inj e).1]; exact hI0⟩
theorem zh_retv (o : zOk G X cc own nL fr lo mc ms) (f : zEnd G X (zPv fun h' => h' = h9) mc ms none) (hd : decode cc pc = .ok (.return_, 1)) (hc : cl ≤ mc) (hs : sl ≤ ms) (e : h = h9) : zQ (EH h) G X cl sl pc L [] := fun x hI0 hw =>
  zs_retv o f hd hc hs (by rw [← e]; exact hI0)
end ZHE
