/-! THE ABSTRACT HEAP: maps by (kind, role, field, handle); a handle is an address + 1, 0 is null -/
set_option maxRecDepth 100000
abbrev zH : Type := Nat × (Nat → Nat × Nat) × (Nat → Nat) × (Nat → Nat → Nat → Nat → Int32) × (Nat → Nat → Nat → Nat → Nat) × (Nat → Nat → Nat → Nat → Int64) × (Nat → Nat → Nat → Nat → UInt64)
def zrf : Nat → Value
  | 0 => .null
  | a + 1 => .ref a
def zT (h : zH) : Nat := h.1
def zK (h : zH) : Nat → Nat × Nat := h.2.1
def zN (h : zH) : Nat → Nat := h.2.2.1
def zI (h : zH) : Nat → Nat → Nat → Nat → Int32 := h.2.2.2.1
def zR (h : zH) : Nat → Nat → Nat → Nat → Nat := h.2.2.2.2.1
def zL (h : zH) : Nat → Nat → Nat → Nat → Int64 := h.2.2.2.2.2.1
def zD (h : zH) : Nat → Nat → Nat → Nat → UInt64 := h.2.2.2.2.2.2
def pu {α : Type} (g : Nat → α) (p : Nat) (x : α) : Nat → α := fun q => if q = p then x else g q
def p4 {α : Type} (g : Nat → Nat → Nat → Nat → α) (c r f p : Nat) (x : α) : Nat → Nat → Nat → Nat → α := fun c' r' f' p' => if c' = c ∧ r' = r ∧ f' = f ∧ p' = p then x else g c' r' f' p'
def n4 {α : Type} (g : Nat → Nat → Nat → Nat → α) (c r p : Nat) (x : α) : Nat → Nat → Nat → Nat → α := fun c' r' f' p' => if c' = c ∧ r' = r ∧ p' = p then x else g c' r' f' p'
def sI (h : zH) (c r f p : Nat) (x : Int32) : zH := (zT h, zK h, zN h, p4 (zI h) c r f p x, zR h, zL h, zD h)
def sR (h : zH) (c r f p : Nat) (x : Nat) : zH := (zT h, zK h, zN h, zI h, p4 (zR h) c r f p x, zL h, zD h)
def sL (h : zH) (c r f p : Nat) (x : Int64) : zH := (zT h, zK h, zN h, zI h, zR h, p4 (zL h) c r f p x, zD h)
def sD (h : zH) (c r f p : Nat) (x : UInt64) : zH := (zT h, zK h, zN h, zI h, zR h, zL h, p4 (zD h) c r f p x)
/-- a new cell of kind c, role r, length n: its handle is zT h + 1 -/
def nw (h : zH) (c r n : Nat) : zH := (zT h + 1, pu (zK h) (zT h + 1) (c, r), pu (zN h) (zT h + 1) n, n4 (zI h) c r (zT h + 1) 0, n4 (zR h) c r (zT h + 1) 0, n4 (zL h) c r (zT h + 1) 0, n4 (zD h) c r (zT h + 1) 0)
/-! the classes by their numbers -/
def zcl : List vw_C := [(RX1, TX1, 37), (RX1, TX1, 37), (RX2, TX2, 4), (RX3, TX3, 61), (RX4, TX4, 5), (RX5, TX5, 4), (RX6, TX6, 4), (RX7, TX7, 2), (RX8, TX8, 23), (RX9, TX9, 6), (RJ2, TJ2, 3), (RJ3, TJ3, 3), (RJ4, TJ4, 3), (RJ6, TJ6, 4), (RJ24, TJ24, 3), (RJ26, TJ26, 4), (RJ28, TJ28, 5), (RJ32, TJ32, 2), (RJ35, TJ35, 4), (RJ21, TJ21, 1), (RJ7, TJ7, 4)]
def zty : Nat → Nat → FieldType := fun c => match c with
  | 0 => tyX1
  | 1 => tyX1
  | 2 => tyX2
  | 3 => tyX3
  | 4 => tyX4
  | 5 => tyX5
  | 6 => tyX6
  | 7 => tyX7
  | 8 => tyX8
  | 9 => tyX9
  | 10 => tyJ2
  | 11 => tyJ3
  | 12 => tyJ4
  | 13 => tyJ6
  | 14 => tyJ24
  | 15 => tyJ26
  | 16 => tyJ28
  | 17 => tyJ32
  | 18 => tyJ35
  | 19 => tyJ21
  | 20 => tyJ7
  | _ => fun _ => .int
def zkn (t : FieldType) : Nat := match t with
  | .long => 2
  | .object _ => 1
  | .array _ => 1
  | _ => 0
def zfk (c k : Nat) : Nat := zkn (zty c k)
theorem zcl_len : zcl.length = 21 := rfl
theorem zct (c : Nat) (q : vw_C) (h : zcl[c]? = some q) : (∀ w ∈ u_ws q.1 q.2.1 q.2.2, w ∈ lw_all) ∧ (∀ k, k < q.2.2 → parseFieldDescriptor (q.2.1 k).2.2.1 = some (zty c k)) ∧ (∀ a, a < q.2.2 → ∀ b, b < q.2.2 → a ≠ b → (q.2.1 a).2.1 ≠ (q.2.1 b).2.1) := by
  match c, h with
  | 0, h => cases h; exact ⟨in_X1, tyX1_ok, nmX1⟩
  | 1, h => cases h; exact ⟨in_X1, tyX1_ok, nmX1⟩
  | 2, h => cases h; exact ⟨in_X2, tyX2_ok, nmX2⟩
  | 3, h => cases h; exact ⟨in_X3, tyX3_ok, nmX3⟩
  | 4, h => cases h; exact ⟨in_X4, tyX4_ok, nmX4⟩
  | 5, h => cases h; exact ⟨in_X5, tyX5_ok, nmX5⟩
  | 6, h => cases h; exact ⟨in_X6, tyX6_ok, nmX6⟩
  | 7, h => cases h; exact ⟨in_X7, tyX7_ok, nmX7⟩
  | 8, h => cases h; exact ⟨in_X8, tyX8_ok, nmX8⟩
  | 9, h => cases h; exact ⟨in_X9, tyX9_ok, nmX9⟩
  | 10, h => cases h; exact ⟨in_J2, tyJ2_ok, nmJ2⟩
  | 11, h => cases h; exact ⟨in_J3, tyJ3_ok, nmJ3⟩
  | 12, h => cases h; exact ⟨in_J4, tyJ4_ok, nmJ4⟩
  | 13, h => cases h; exact ⟨in_J6, tyJ6_ok, nmJ6⟩
  | 14, h => cases h; exact ⟨in_J24, tyJ24_ok, nmJ24⟩
  | 15, h => cases h; exact ⟨in_J26, tyJ26_ok, nmJ26⟩
  | 16, h => cases h; exact ⟨in_J28, tyJ28_ok, nmJ28⟩
  | 17, h => cases h; exact ⟨in_J32, tyJ32_ok, nmJ32⟩
  | 18, h => cases h; exact ⟨in_J35, tyJ35_ok, nmJ35⟩
  | 19, h => cases h; exact ⟨in_J21, tyJ21_ok, nmJ21⟩
  | 20, h => cases h; exact ⟨in_J7, tyJ7_ok, nmJ7⟩
  | c + 21, h => simp [zcl] at h
/-! arrays: kinds from 201 on -/
def ztys (dA : Nat → ClassId) : List (ClassId × FieldType) := [(dA 201, .int), (dA 202, .boolean), (dA 203, .long), (dA 204, .double), (dA 205, .object "java/lang/Object"), (dA 206, .array .int), (dA 207, .byte), (dA 208, .object "java/lang/Integer")]
def zV (h : zH) (c r p k : Nat) : Value := if zfk c k = 0 then .int (zI h c r k p) else if zfk c k = 1 then zrf (zR h c r k p) else .long (zL h c r k p)
def zA (h : zH) (c r p j : Nat) : Value := if c = 203 then .long (zL h c r j p) else if c = 204 then .double (zD h c r j p) else if c = 205 ∨ c = 206 ∨ c = 208 then zrf (zR h c r j p) else .int (zI h c r j p)
/-- what is fixed all through a run: the launch, the heap at the law's start, classes and slots, array classes, what statics hold -/
abbrev zG : Type := Launch × Heap × va_G × (Nat → ClassId) × List (String × String × String × Value) × Nat × Nat
abbrev zGl (G : zG) : Launch := G.1
abbrev zGh (G : zG) : Heap := G.2.1
abbrev zGd (G : zG) : va_G := G.2.2.1
abbrev zGa (G : zG) : Nat → ClassId := G.2.2.2.1
abbrev zGz (G : zG) : List (String × String × String × Value) := G.2.2.2.2.1
/-- where the text of the reasons lies -/
abbrev zGs (G : zG) : Nat := G.2.2.2.2.2.1
/-- where the class object of Object[] lies -/
abbrev zGm (G : zG) : Nat := G.2.2.2.2.2.2
def zB (G : zG) : Nat := (zGh G).size
abbrev zFr (G : zG) : Nat → Prop := fun q => zB G ≤ q
def zat (G : zG) (h : zH) (p : Nat) (H : Heap) : Prop :=
  (zK h p).1 = 0 ∨ ∃ a, p = a + 1 ∧ ((zK h p).2 ≠ 0 → zB G ≤ a) ∧
    ((∃ q, zcl[(zK h p).1]? = some q ∧ t_OB a ((zGd G).1 (zK h p).1) q.2.2 ((zGd G).2 (zK h p).1) H (zV h (zK h p).1 (zK h p).2 p)) ∨
     (200 ≤ (zK h p).1 ∧ H[a]? = some (arrV (zGa G (zK h p).1) (zN h p) (zA h (zK h p).1 (zK h p).2 p))))
def Rep (G : zG) (h : zH) (H : Heap) : Prop := H.size = zT h ∧ zB G ≤ zT h ∧ (∀ q : Nat, q < zB G → H[q]? = (zGh G)[q]?) ∧ ∀ p, zat G h p H
theorem zat.lt {G : zG} {h : zH} {p : Nat} {H : Heap} (w : zat G h p H) (hk : (zK h p).1 ≠ 0) : ∃ a, p = a + 1 ∧ a < H.size := by
  rcases w with w | ⟨a, rfl, -, ⟨q, -, cell, e, -⟩ | ⟨-, e⟩⟩
  · exact absurd w hk
  · exact ⟨a, rfl, (Array.getElem?_eq_some_iff.mp e).1⟩
  · exact ⟨a, rfl, (Array.getElem?_eq_some_iff.mp e).1⟩
def zWf (h : zH) : Prop := ∀ p, (zK h p).1 ≠ 0 → 0 < p ∧ p ≤ zT h
theorem Rep.wf {G : zG} {h : zH} {H : Heap} (w : Rep G h H) : zWf h := fun p hp => by
  obtain ⟨a, rfl, ha⟩ := (w.2.2.2 p).lt hp
  rw [w.1] at ha
  exact ⟨Nat.succ_pos a, ha⟩
theorem zat.keep {G : zG} {h h' : zH} {p : Nat} {H H' : Heap} (w : zat G h p H) (e2 : zK h' p = zK h p) (e3 : zN h' p = zN h p) (o : ∀ q : Nat, p = q + 1 → q < H.size → H'[q]? = H[q]?)
    (hv : ∀ c r k, (c, r) = zK h p → zV h' c r p k = zV h c r p k ∧ zA h' c r p k = zA h c r p k) : zat G h' p H' := by
  unfold zat
  rw [e2, e3]
  rcases w with w | ⟨a, rfl, w1, ⟨q, w2, w3⟩ | ⟨w2, w3⟩⟩
  · exact Or.inl w
  · refine Or.inr ⟨a, rfl, w1, Or.inl ⟨q, w2, ?_⟩⟩
    have w9 := w3
    obtain ⟨cell, e, -⟩ := w9
    exact (w3.kept (o a rfl (Array.getElem?_eq_some_iff.mp e).1)).to (fun k _ => (hv _ _ k rfl).1.symm)
  · refine Or.inr ⟨a, rfl, w1, Or.inr ⟨w2, ?_⟩⟩
    rw [o a rfl (Array.getElem?_eq_some_iff.mp w3).1, w3, show zA h' (zK h (a + 1)).1 (zK h (a + 1)).2 (a + 1) = zA h (zK h (a + 1)).1 (zK h (a + 1)).2 (a + 1) from funext fun k => (hv _ _ k rfl).2]
theorem Rep.put {G : zG} {h h' : zH} {a : Nat} {H H' : Heap} (w : Rep G h H) (e1 : zT h' = zT h) (e2 : zK h' = zK h) (e3 : zN h' = zN h) (z : H'.size = H.size) (o : ∀ q : Nat, q ≠ a → H'[q]? = H[q]?) (hb : zB G ≤ a)
    (hv : ∀ p, p ≠ a + 1 → ∀ c r k, zV h' c r p k = zV h c r p k ∧ zA h' c r p k = zA h c r p k) (ha : zat G h' (a + 1) H') : Rep G h' H' := by
  obtain ⟨w1, w2, w3, w4⟩ := w
  refine ⟨by rw [z, w1, e1], by rw [e1]; exact w2, fun q hq => ?_, fun p => ?_⟩
  · rw [o q (by omega)]; exact w3 q hq
  · by_cases hp : p = a + 1
    · rw [hp]; exact ha
    · exact (w4 p).keep (by rw [e2]) (by rw [e3]) (fun q e _ => o q (fun e' => hp (by rw [e, e']))) (fun c r k _ => hv p hp c r k)
theorem zV_pu {h h' : zH} {a : Nat} (eI : ∀ c r k p, p ≠ a → zI h' c r k p = zI h c r k p) (eR : ∀ c r k p, p ≠ a → zR h' c r k p = zR h c r k p) (eL : ∀ c r k p, p ≠ a → zL h' c r k p = zL h c r k p) (eD : ∀ c r k p, p ≠ a → zD h' c r k p = zD h c r k p) :
    ∀ p, p ≠ a → ∀ c r k, zV h' c r p k = zV h c r p k ∧ zA h' c r p k = zA h c r p k := by
  intro p hp c r k
  unfold zV zA
  rw [eI c r k p hp, eR c r k p hp, eL c r k p hp, eD c r k p hp]
  exact ⟨rfl, rfl⟩
theorem p4_ne {α : Type} {g : Nat → Nat → Nat → Nat → α} {c r f p : Nat} {x : α} {c' r' f' p' : Nat} (h : p' ≠ p) : p4 g c r f p x c' r' f' p' = g c' r' f' p' := by
  unfold p4; rw [if_neg]; exact fun e => h e.2.2.2
theorem n4_ne {α : Type} {g : Nat → Nat → Nat → Nat → α} {c r p : Nat} {x : α} {c' r' f' p' : Nat} (h : p' ≠ p) : n4 g c r p x c' r' f' p' = g c' r' f' p' := by
  unfold n4; rw [if_neg]; exact fun e => h e.2.2
theorem p4_nf {α : Type} {g : Nat → Nat → Nat → Nat → α} {c r f p : Nat} {x : α} {c' r' f' p' : Nat} (h : f' ≠ f) : p4 g c r f p x c' r' f' p' = g c' r' f' p' := by
  unfold p4; rw [if_neg]; exact fun e => h e.2.2.1
theorem p4_at {α : Type} {g : Nat → Nat → Nat → Nat → α} {c r f p : Nat} {x : α} : p4 g c r f p x c r f p = x := by
  unfold p4; rw [if_pos ⟨rfl, rfl, rfl, rfl⟩]
theorem zV_sI {h : zH} {c r f a : Nat} {x : Int32} : ∀ p, p ≠ a → ∀ c' r' k, zV (sI h c r f a x) c' r' p k = zV h c' r' p k ∧ zA (sI h c r f a x) c' r' p k = zA h c' r' p k :=
  zV_pu (a := a) (fun _ _ _ _ e => p4_ne e) (fun _ _ _ _ _ => rfl) (fun _ _ _ _ _ => rfl) (fun _ _ _ _ _ => rfl)
theorem zV_sR {h : zH} {c r f a : Nat} {x : Nat} : ∀ p, p ≠ a → ∀ c' r' k, zV (sR h c r f a x) c' r' p k = zV h c' r' p k ∧ zA (sR h c r f a x) c' r' p k = zA h c' r' p k :=
  zV_pu (a := a) (fun _ _ _ _ _ => rfl) (fun _ _ _ _ e => p4_ne e) (fun _ _ _ _ _ => rfl) (fun _ _ _ _ _ => rfl)
theorem zV_sL {h : zH} {c r f a : Nat} {x : Int64} : ∀ p, p ≠ a → ∀ c' r' k, zV (sL h c r f a x) c' r' p k = zV h c' r' p k ∧ zA (sL h c r f a x) c' r' p k = zA h c' r' p k :=
  zV_pu (a := a) (fun _ _ _ _ _ => rfl) (fun _ _ _ _ _ => rfl) (fun _ _ _ _ e => p4_ne e) (fun _ _ _ _ _ => rfl)
theorem zV_sD {h : zH} {c r f a : Nat} {x : UInt64} : ∀ p, p ≠ a → ∀ c' r' k, zV (sD h c r f a x) c' r' p k = zV h c' r' p k ∧ zA (sD h c r f a x) c' r' p k = zA h c' r' p k :=
  zV_pu (a := a) (fun _ _ _ _ _ => rfl) (fun _ _ _ _ _ => rfl) (fun _ _ _ _ _ => rfl) (fun _ _ _ _ e => p4_ne e)
/-- a new cell -/
theorem Rep.new {G : zG} {h : zH} {H H' : Heap} {c r n : Nat} (w : Rep G h H) (z : H'.size = H.size + 1) (o : ∀ q : Nat, q < H.size → H'[q]? = H[q]?)
    (ha : (∃ q, zcl[c]? = some q ∧ t_OB H.size ((zGd G).1 c) q.2.2 ((zGd G).2 c) H' (zV (nw h c r n) c r (H.size + 1))) ∨ (200 ≤ c ∧ H'[H.size]? = some (arrV (zGa G c) n (zA (nw h c r n) c r (H.size + 1))))) : Rep G (nw h c r n) H' := by
  obtain ⟨w1, w2, w3, w4⟩ := w
  refine ⟨by rw [z, w1]; rfl, Nat.le_succ_of_le w2, fun q hq => ?_, fun p => ?_⟩
  · rw [o q (by omega)]; exact w3 q hq
  · by_cases hp : p = H.size + 1
    · have hk : zK (nw h c r n) p = (c, r) := by show pu (zK h) (zT h + 1) (c, r) p = _; unfold pu; rw [if_pos (by rw [hp, w1])]
      have hn : zN (nw h c r n) p = n := by show pu (zN h) (zT h + 1) n p = _; unfold pu; rw [if_pos (by rw [hp, w1])]
      unfold zat
      rw [hk, hn]
      refine Or.inr ⟨H.size, hp, fun _ => by rw [w1]; exact w2, ?_⟩
      rw [hp]
      exact ha
    · by_cases h0 : (zK h p).1 = 0
      · refine Or.inl ?_
        show (pu (zK h) (zT h + 1) (c, r) p).1 = 0
        unfold pu
        rw [if_neg (by rw [← w1]; exact hp)]
        exact h0
      · refine (w4 p).keep ?_ ?_ (fun q _ hq => o q hq) ?_
        · show pu (zK h) (zT h + 1) (c, r) p = _; unfold pu; rw [if_neg (by rw [← w1]; exact hp)]
        · show pu (zN h) (zT h + 1) n p = _; unfold pu; rw [if_neg (by rw [← w1]; exact hp)]
        · intro c' r' k _
          refine zV_pu (h := h) (h' := nw h c r n) (a := zT h + 1) (fun _ _ _ _ e => n4_ne e) (fun _ _ _ _ e => n4_ne e) (fun _ _ _ _ e => n4_ne e) (fun _ _ _ _ e => n4_ne e) p (by rw [← w1]; exact hp) c' r' k
/-! rewriting: what a write leaves -/
theorem zT_sI {h : zH} {c r f p : Nat} {x : Int32} : zT (sI h c r f p x) = zT h := rfl
theorem zT_sR {h : zH} {c r f p x : Nat} : zT (sR h c r f p x) = zT h := rfl
theorem zT_sL {h : zH} {c r f p : Nat} {x : Int64} : zT (sL h c r f p x) = zT h := rfl
theorem zK_sI {h : zH} {c r f p : Nat} {x : Int32} : zK (sI h c r f p x) = zK h := rfl
theorem zK_sR {h : zH} {c r f p x : Nat} : zK (sR h c r f p x) = zK h := rfl
theorem zK_sL {h : zH} {c r f p : Nat} {x : Int64} : zK (sL h c r f p x) = zK h := rfl
theorem zK_sD {h : zH} {c r f p : Nat} {x : UInt64} : zK (sD h c r f p x) = zK h := rfl
theorem zN_sI {h : zH} {c r f p : Nat} {x : Int32} : zN (sI h c r f p x) = zN h := rfl
theorem zN_sR {h : zH} {c r f p x : Nat} : zN (sR h c r f p x) = zN h := rfl
theorem zN_sL {h : zH} {c r f p : Nat} {x : Int64} : zN (sL h c r f p x) = zN h := rfl
theorem zN_sD {h : zH} {c r f p : Nat} {x : UInt64} : zN (sD h c r f p x) = zN h := rfl
theorem zI_sR {h : zH} {c r f p x : Nat} : zI (sR h c r f p x) = zI h := rfl
theorem zI_sL {h : zH} {c r f p : Nat} {x : Int64} : zI (sL h c r f p x) = zI h := rfl
theorem zI_sD {h : zH} {c r f p : Nat} {x : UInt64} : zI (sD h c r f p x) = zI h := rfl
theorem zR_sI {h : zH} {c r f p : Nat} {x : Int32} : zR (sI h c r f p x) = zR h := rfl
theorem zR_sL {h : zH} {c r f p : Nat} {x : Int64} : zR (sL h c r f p x) = zR h := rfl
theorem zR_sD {h : zH} {c r f p : Nat} {x : UInt64} : zR (sD h c r f p x) = zR h := rfl
theorem zL_sI {h : zH} {c r f p : Nat} {x : Int32} : zL (sI h c r f p x) = zL h := rfl
theorem zL_sR {h : zH} {c r f p x : Nat} : zL (sR h c r f p x) = zL h := rfl
theorem zL_sD {h : zH} {c r f p : Nat} {x : UInt64} : zL (sD h c r f p x) = zL h := rfl
def u2 {α : Type} (g : Nat → Nat → α) (f p : Nat) (x : α) : Nat → Nat → α := fun f' p' => if f' = f ∧ p' = p then x else g f' p'
theorem p4_cr {α : Type} (g : Nat → Nat → Nat → Nat → α) (c r f p : Nat) (x : α) (c' r' : Nat) : p4 g c r f p x c' r' = if c' = c ∧ r' = r then u2 (g c' r') f p x else g c' r' := by
  funext f' p'
  unfold p4
  by_cases e : c' = c ∧ r' = r
  · rw [if_pos e]; unfold u2; simp [e.1, e.2]
  · rw [if_neg e, if_neg]; exact fun q => e ⟨q.1, q.2.1⟩
theorem zI_sI (h : zH) (c r f p : Nat) (x : Int32) (c' r' : Nat) : zI (sI h c r f p x) c' r' = if c' = c ∧ r' = r then u2 (zI h c' r') f p x else zI h c' r' := p4_cr _ _ _ _ _ _ _ _
theorem zR_sR (h : zH) (c r f p x : Nat) (c' r' : Nat) : zR (sR h c r f p x) c' r' = if c' = c ∧ r' = r then u2 (zR h c' r') f p x else zR h c' r' := p4_cr _ _ _ _ _ _ _ _
theorem zL_sL (h : zH) (c r f p : Nat) (x : Int64) (c' r' : Nat) : zL (sL h c r f p x) c' r' = if c' = c ∧ r' = r then u2 (zL h c' r') f p x else zL h c' r' := p4_cr _ _ _ _ _ _ _ _
theorem u2_f {α : Type} (g : Nat → Nat → α) (f p : Nat) (x : α) (f' : Nat) : u2 g f p x f' = if f' = f then pu (g f') p x else g f' := by
  funext p'
  unfold u2
  by_cases e : f' = f
  · rw [if_pos e]; unfold pu; simp [e]
  · rw [if_neg e, if_neg]; exact fun q => e q.1
theorem pu_at {α : Type} (g : Nat → α) (p : Nat) (x : α) : pu g p x p = x := by unfold pu; rw [if_pos rfl]
theorem pu_ne {α : Type} {g : Nat → α} {p : Nat} {x : α} {q : Nat} (h : q ≠ p) : pu g p x q = g q := by unfold pu; rw [if_neg h]
def n2 {α : Type} (g : Nat → Nat → α) (p : Nat) (x : α) : Nat → Nat → α := fun f' p' => if p' = p then x else g f' p'
theorem n4_cr {α : Type} (g : Nat → Nat → Nat → Nat → α) (c r p : Nat) (x : α) (c' r' : Nat) : n4 g c r p x c' r' = if c' = c ∧ r' = r then n2 (g c' r') p x else g c' r' := by
  funext f' p'
  unfold n4
  by_cases e : c' = c ∧ r' = r
  · rw [if_pos e]; unfold n2; simp [e.1, e.2]
  · rw [if_neg e, if_neg]; exact fun q => e ⟨q.1, q.2.1⟩
theorem zI_nw (h : zH) (c r n : Nat) (c' r' : Nat) : zI (nw h c r n) c' r' = if c' = c ∧ r' = r then n2 (zI h c' r') (zT h + 1) 0 else zI h c' r' := n4_cr _ _ _ _ _ _ _
theorem zR_nw (h : zH) (c r n : Nat) (c' r' : Nat) : zR (nw h c r n) c' r' = if c' = c ∧ r' = r then n2 (zR h c' r') (zT h + 1) 0 else zR h c' r' := n4_cr _ _ _ _ _ _ _
theorem zL_nw (h : zH) (c r n : Nat) (c' r' : Nat) : zL (nw h c r n) c' r' = if c' = c ∧ r' = r then n2 (zL h c' r') (zT h + 1) 0 else zL h c' r' := n4_cr _ _ _ _ _ _ _
theorem n2_f {α : Type} (g : Nat → Nat → α) (p : Nat) (x : α) (f' : Nat) : n2 g p x f' = pu (g f') p x := rfl
theorem zT_nw (h : zH) (c r n : Nat) : zT (nw h c r n) = zT h + 1 := rfl
theorem nw_Ks {h : zH} {c r n : Nat} : zK (nw h c r n) (zT h + 1) = (c, r) := pu_at _ _ _
theorem nw_K {h : zH} {c r n c' r' q : Nat} (w : zWf h) (hq : zK h q = (c', r')) (h0 : c' ≠ 0) : zK (nw h c r n) q = (c', r') := by
  have h1 := w q (by rw [hq]; exact h0)
  show pu (zK h) (zT h + 1) (c, r) q = _
  rw [pu_ne (by omega), hq]
theorem nw_ne {h : zH} {c' r' q : Nat} (w : zWf h) (hq : zK h q = (c', r')) (h0 : c' ≠ 0) : q ≠ zT h + 1 := by
  have h1 := w q (by rw [hq]; exact h0)
  omega
theorem nw_Ns {h : zH} {c r n : Nat} : zN (nw h c r n) (zT h + 1) = n := pu_at _ _ _
theorem nw_N {h : zH} {c r n c' r' q : Nat} (w : zWf h) (hq : zK h q = (c', r')) (h0 : c' ≠ 0) : zN (nw h c r n) q = zN h q := by
  have h1 := w q (by rw [hq]; exact h0)
  show pu (zN h) (zT h + 1) n q = _
  rw [pu_ne (by omega)]
theorem zWf_nw {h : zH} (w : zWf h) {c r n : Nat} : zWf (nw h c r n) := fun p hp => by
  by_cases e : p = zT h + 1
  · exact ⟨by omega, by rw [e]; exact Nat.le_refl _⟩
  · have hp2 : (zK h p).1 ≠ 0 := by
      have e2 : pu (zK h) (zT h + 1) (c, r) p = zK h p := pu_ne e
      have hp : (pu (zK h) (zT h + 1) (c, r) p).1 ≠ 0 := hp
      rw [e2] at hp; exact hp
    have h1 := w p hp2
    exact ⟨h1.1, by show p ≤ zT h + 1; omega⟩
