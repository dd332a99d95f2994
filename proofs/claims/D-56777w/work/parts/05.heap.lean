/-! STEPS THAT READ AND WRITE THE ABSTRACT HEAP -/
set_option maxRecDepth 100000
def zq (c : Nat) : vw_C := (zcl[c]?).getD (RX1, TX1, 37)
theorem zq_at {c : Nat} (h : c < 21) : zcl[c]? = some (zq c) := by
  unfold zq
  rw [List.getElem?_eq_getElem (by rw [zcl_len]; exact h)]
  rfl
/-- the pool entry 'index' of the class own names field k of class c -/
def zFL (own : String) (index c k : Nat) : Prop := c ≠ 0 ∧ c < 21 ∧ k < (zq c).2.2 ∧ ∃ ref, (ref = ((zq c).2.1 k).1 ∨ Cond.sameField ref ((zq c).2.1 k).1 ((zq c).2.1 k).2.1 ((zq c).2.1 k).2.2.1 ∈ lw_all) ∧
  (Cond.fieldLink own index ref ((zq c).2.1 k).2.1 ((zq c).2.1 k).2.2.1 ∈ lw_all ∨ ∃ host, Cond.fieldLinkNest own index ref ((zq c).2.1 k).2.1 ((zq c).2.1 k).2.2.1 host ∈ lw_tbl)
theorem zdef : ∀ c, c < 21 → ∀ k, k < (zq c).2.2 → defaultValue (zty c k) = if zfk c k = 0 then .int 0 else if zfk c k = 1 then .null else .long 0 := by decide +kernel
/-- the class of an object -/
def zNL (own : String) (index c : Nat) : Prop := c ≠ 0 ∧ c < 21 ∧ Cond.classLink own index (zq c).1 ∈ lw_all ∧ Cond.instantiable (zq c).1 (zq c).2.2 ∈ lw_all ∧ Cond.initialized (zq c).1 ∈ lw_all
def zaty : Nat → FieldType := fun c => match c with
  | 201 => .int
  | 202 => .boolean
  | 203 => .long
  | 204 => .double
  | 205 => .object "java/lang/Object"
  | 206 => .array .int
  | 207 => .byte
  | _ => .object "java/lang/Integer"
theorem zrf_suc (a : Nat) : zrf (a + 1) = .ref a := rfl
theorem Rep.obj {G : zG} {h : zH} {H : Heap} {p c r : Nat} (w : Rep G h H) (hk : zK h p = (c, r)) (h0 : c ≠ 0) (h1 : c < 21) : ∃ a, p = a + 1 ∧ (r ≠ 0 → zB G ≤ a) ∧ t_OB a ((zGd G).1 c) (zq c).2.2 ((zGd G).2 c) H (zV h c r p) := by
  have hp := w.2.2.2 p
  unfold zat at hp
  rw [hk] at hp
  rcases hp with hp | ⟨a, e, e1, ⟨q, e2, e3⟩ | ⟨e2, -⟩⟩
  · exact absurd hp h0
  · have hq : q = zq c := Option.some.inj (e2.symm.trans (zq_at h1))
    rw [hq] at e3
    exact ⟨a, e, e1, e3⟩
  · exact absurd e2 (by show ¬ 200 ≤ c; omega)
theorem Rep.arr {G : zG} {h : zH} {H : Heap} {p c r : Nat} (w : Rep G h H) (hk : zK h p = (c, r)) (h1 : 200 ≤ c) : ∃ a, p = a + 1 ∧ (r ≠ 0 → zB G ≤ a) ∧ H[a]? = some (arrV (zGa G c) (zN h p) (zA h c r p)) := by
  have hp := w.2.2.2 p
  unfold zat at hp
  rw [hk] at hp
  rcases hp with hp | ⟨a, e, e1, ⟨q, e2, e3⟩ | ⟨-, e2⟩⟩
  · exact absurd hp (by show ¬ c = 0; omega)
  · exact absurd (List.getElem?_eq_some_iff.mp e2).1 (by rw [zcl_len]; show ¬ c < 21; omega)
  · exact ⟨a, e, e1, e2⟩
theorem zKK.arr {G : zG} {U : State} (k : zKK G U) {c : Nat} (h1 : 201 ≤ c) (h2 : c ≤ 208) : ArrOfT U (zGa G c) (zaty c) ∧ va_RA U (zGa G c) (zaty c) := by
  have hk := k.1.2 (c - 201) (zGa G c, zaty c)
  refine hk ?_
  rcases (show c = 201 ∨ c = 202 ∨ c = 203 ∨ c = 204 ∨ c = 205 ∨ c = 206 ∨ c = 207 ∨ c = 208 by omega) with rfl | rfl | rfl | rfl | rfl | rfl | rfl | rfl <;> rfl
section HP
variable {G : zG} {X : zX} {cc : ByteArray} {own : String} {nL fr lo mc ms cl sl pc : Nat} {h : zH} {L : List (Option Value)} {st : List Value}
theorem zfl_same {c k : Nat} {ref : String} (o : zOk G X cc own nL fr lo mc ms) (hs : ref = ((zq c).2.1 k).1 ∨ Cond.sameField ref ((zq c).2.1 k).1 ((zq c).2.1 k).2.1 ((zq c).2.1 k).2.2.1 ∈ lw_all) {x : ClassId × Class × Nat × Field} (hi : (Xs X).fieldFound? ((zq c).2.1 k).1 ((zq c).2.1 k).2.1 ((zq c).2.1 k).2.2.1 = some x) : (Xs X).fieldFound? ref ((zq c).2.1 k).2.1 ((zq c).2.1 k).2.2.1 = some x := by
  rcases hs with e | e
  · rw [e]; exact hi
  · exact u_same (o.w _ e) x hi
theorem zs_get (o : zOk G X cc own nL fr lo mc ms) {index c r k p : Nat} (fl : zFL own index c k) (hd : decode cc pc = .ok (.getfield index, 3)) (hk : zK h p = (c, r)) (kk : zW G X h cl sl (pc + 3) L (zV h c r p k :: st)) : zW G X h cl sl pc L (zrf p :: st) := by
  intro H locs ls hR hl hL
  obtain ⟨h0, h1, h2, ref, hs, hlk⟩ := fl
  obtain ⟨a, rfl, -, cell, q1, q2, q3, q4⟩ := hR.obj hk h0 h1
  obtain ⟨hS, hfc, kC, hkC, hkind⟩ := o.k.1.1 c _ (zq_at h1)
  obtain ⟨cf, kf, fi, f, hi, hsl⟩ := hS k h2
  have hct := zct c _ (zq_at h1)
  have hst := (u_facts hfc hkC (u_lays o.w hct.1 h2) hi).1
  have hv : cell.slots[f.slot]? = some (zV h c r (a + 1) k) := by rw [hsl]; exact q4 k h2
  have kk' := kk H locs ls hR hl hL
  rcases hlk with hlk | ⟨host, hlk⟩
  · exact W.getf o.x o.b o.ow (o.w _ hlk) (zfl_same o hs hi) hst q1 (by rw [q3]; exact fun h => by cases h) hv rfl rfl hd kk'
  · exact va_Wgetf o.x o.b o.ow (va_Nw.use rfl (o.nest hlk rfl)) (zfl_same o hs hi) hst q1 (by rw [q3]; exact fun h => by cases h) hv rfl rfl hd kk'
theorem zs_getI (o : zOk G X cc own nL fr lo mc ms) {index c r k p : Nat} (fl : zFL own index c k) (hf : zfk c k = 0) (hd : decode cc pc = .ok (.getfield index, 3)) (hk : zK h p = (c, r)) (kk : zW G X h cl sl (pc + 3) L (.int (zI h c r k p) :: st)) : zW G X h cl sl pc L (zrf p :: st) := by
  refine zs_get o fl hd hk ?_
  unfold zV; rw [if_pos hf]; exact kk
theorem zs_getR (o : zOk G X cc own nL fr lo mc ms) {index c r k p : Nat} (fl : zFL own index c k) (hf : zfk c k = 1) (hd : decode cc pc = .ok (.getfield index, 3)) (hk : zK h p = (c, r)) (kk : zW G X h cl sl (pc + 3) L (zrf (zR h c r k p) :: st)) : zW G X h cl sl pc L (zrf p :: st) := by
  refine zs_get o fl hd hk ?_
  unfold zV; rw [if_neg (by rw [hf]; decide), if_pos hf]; exact kk
theorem zs_getL (o : zOk G X cc own nL fr lo mc ms) {index c r k p : Nat} (fl : zFL own index c k) (hf : zfk c k = 2) (hd : decode cc pc = .ok (.getfield index, 3)) (hk : zK h p = (c, r)) (kk : zW G X h cl sl (pc + 3) L (.long (zL h c r k p) :: st)) : zW G X h cl sl pc L (zrf p :: st) := by
  refine zs_get o fl hd hk ?_
  unfold zV; rw [if_neg (by rw [hf]; decide), if_neg (by rw [hf]; decide)]; exact kk
/-- a write: h' is h with field k of p set to v; final fields in a constructor of their own class -/
theorem zs_put (o : zOk G X cc own nL fr lo mc ms) {index c r k p : Nat} {v : Value} {h' : zH} (fl : zFL own index c k) (hd : decode cc pc = .ok (.putfield index, 3)) (hk : zK h p = (c, r)) (hr : r ≠ 0)
    (hfin : ((zq c).2.1 k).2.2.2 = false ∨ (((zq c).2.1 k).2.2.2 = true ∧ ((zq c).2.1 k).1 = own ∧ (Xt X).name = "<init>")) (hn : narrow (zty c k) v = v ∧ fits (zty c k) v = true)
    (e1 : zT h' = zT h) (e2 : zK h' = zK h) (e3 : zN h' = zN h) (hv : ∀ p', p' ≠ p → ∀ c r k, zV h' c r p' k = zV h c r p' k ∧ zA h' c r p' k = zA h c r p' k) (hw : ∀ j, zV h' c r p j = updV (zV h c r p) k v j)
    (kk : zW G X h' cl sl (pc + 3) L st) : zW G X h cl sl pc L (v :: zrf p :: st) := by
  intro H locs ls hR hl hL
  obtain ⟨h0, h1, h2, ref, hs, hlk⟩ := fl
  obtain ⟨a, rfl, hb, cell, q1, q2, q3, q4⟩ := hR.obj hk h0 h1
  obtain ⟨hS, hfc, kC, hkC, hkind⟩ := o.k.1.1 c _ (zq_at h1)
  obtain ⟨cf, kf, fi, f, hi, hsl⟩ := hS k h2
  have hct := zct c _ (zq_at h1)
  have hst := (u_facts hfc hkC (u_lays o.w hct.1 h2) hi).1
  have hap := va_apart (own := own) o.w hct.1 (zty c) hct.2.1 hct.2.2 o.k.1 (zq_at h1)
  have hlt : f.slot < cell.slots.size := by rw [hsl]; exact k2_hasslot (q4 k h2)
  have key : ∀ H' : Heap, H'[a]? = some (cell.setSlot f.slot v) → H'.size = H.size → (∀ q, q ≠ a → H'[q]? = H[q]?) → W (Xp X) (zGl G) (Xe X) (Xr X) (Xs X) (Xm X) (Xa X) (Xb X) (Xt X) (Xc X) H' (locs ++ [⟨a, f.slot⟩]) cl sl (Xq X) (F0 (Xm X) (pc + 3) ls st) := by
    intro H' g1 g2 g3
    refine kk H' _ ls (hR.put e1 e2 e3 g2 g3 (hb hr) hv ?_) ⟨fun q hq => ?_, by rw [g2]; exact hl.2⟩ hL
    · unfold zat
      rw [e2, hk]
      refine Or.inr ⟨a, rfl, hb, Or.inl ⟨_, zq_at h1, ?_⟩⟩
      refine t_OB.to (V := updV (zV h c r (a + 1)) k v) ⟨_, g1, q2, q3, ?_⟩ (fun j _ => (hw j).symm)
      rw [hsl]
      exact t_set q4 hap h2 v
    · rcases List.mem_append.mp hq with h9 | h9
      · exact hl.1 q h9
      · rw [List.mem_singleton.mp h9]; exact hb hr
  have hlay := o.w _ (hct.1 _ (u_in_lay h2))
  unfold u_lay at hlay
  rcases hfin with hfin | ⟨hfin, hdecl, hin⟩
  · rw [if_neg (by rw [hfin]; decide)] at hlay
    have h6 := u_store hfc hkC hkind hlay hi (hct.2.1 k h2) hn.1 hn.2
    rcases hlk with hlk | ⟨host, hlk⟩
    · exact W.putK o.x o.b (f := f) ⟨o.ow, o.w _ hlk, ⟨_, _, _, zfl_same o hs hi⟩, hst⟩ (by rw [q2]; exact h6) q1 q3 hlt rfl rfl hd key
    · exact va_WputK o.x o.b (f := f) o.ow (va_Nw.use rfl (o.nest hlk rfl)) (zfl_same o hs hi) hst (by rw [q2]; exact h6) q1 q3 hlt rfl rfl hd key
  · rw [if_pos hfin] at hlay
    have hcf : (Xm X).cls = cf := by
      obtain ⟨_, _, c', _, _, _, -, -, hf', -, -, -, hown2, -⟩ := Cond.laysFinal_spec hlay
      have e1 : c' = cf := by have := hi.symm.trans hf'; simp at this; exact this.1.symm
      rw [hdecl] at hown2
      rw [← e1]; exact Option.some.inj (o.ow.symm.trans hown2)
    have h6 := u_fits hfc hkC hkind (Or.inr hlay) hi (hct.2.1 k h2) hn.1 hn.2
    rcases hlk with hlk | ⟨host, hlk⟩
    · exact W.putFinK o.x o.b o.ow (o.w _ hlk) (zfl_same o hs hi) hst hcf hin (by rw [q2]; exact h6) q1 q3 hlt rfl rfl hd key
    · refine va_Wputf o.x o.b o.ow (va_Nw.use rfl (o.nest hlk rfl)) (zfl_same o hs hi) hst (Or.inr ⟨hcf, hin⟩) q1 (by rw [q3]; exact fun h => by cases h) hlt h6.1 (by rw [q2, q3]; exact h6.2) rfl rfl hd ?_
      have ha : a < H.size := (Array.getElem?_eq_some_iff.mp q1).1
      refine key _ (by simp [Array.getElem?_setIfInBounds, ha]) (by simp) (fun q hq => by simp [Array.getElem?_setIfInBounds, Ne.symm hq])
theorem zV_wI {h : zH} {c r k p : Nat} {x : Int32} (hf : zfk c k = 0) (j : Nat) : zV (sI h c r k p x) c r p j = updV (zV h c r p) k (.int x) j := by
  unfold updV
  by_cases e : j = k
  · subst e
    rw [if_pos rfl]; unfold zV; rw [if_pos hf]
    show Value.int (p4 (zI h) c r j p x c r j p) = _
    rw [p4_at]
  · rw [if_neg e]
    show zV (sI h c r k p x) c r p j = zV h c r p j
    unfold zV
    rw [show zI (sI h c r k p x) c r j p = zI h c r j p from p4_nf e]
    rfl
theorem zV_wR {h : zH} {c r k p : Nat} {x : Nat} (hf : zfk c k = 1) (j : Nat) : zV (sR h c r k p x) c r p j = updV (zV h c r p) k (zrf x) j := by
  unfold updV
  by_cases e : j = k
  · subst e
    rw [if_pos rfl]; unfold zV; rw [if_neg (by rw [hf]; decide), if_pos hf]
    show zrf (p4 (zR h) c r j p x c r j p) = _
    rw [p4_at]
  · rw [if_neg e]
    show zV (sR h c r k p x) c r p j = zV h c r p j
    unfold zV
    rw [show zR (sR h c r k p x) c r j p = zR h c r j p from p4_nf e]
    rfl
theorem zV_wL {h : zH} {c r k p : Nat} {x : Int64} (hf : zfk c k = 2) (j : Nat) : zV (sL h c r k p x) c r p j = updV (zV h c r p) k (.long x) j := by
  unfold updV
  by_cases e : j = k
  · subst e
    rw [if_pos rfl]; unfold zV; rw [if_neg (by rw [hf]; decide), if_neg (by rw [hf]; decide)]
    show Value.long (p4 (zL h) c r j p x c r j p) = _
    rw [p4_at]
  · rw [if_neg e]
    show zV (sL h c r k p x) c r p j = zV h c r p j
    unfold zV
    rw [show zL (sL h c r k p x) c r j p = zL h c r j p from p4_nf e]
    rfl
theorem zkn_ref {t : FieldType} (h : zkn t = 1) (p : Nat) : narrow t (zrf p) = zrf p ∧ fits t (zrf p) = true := by
  cases t <;> simp [zkn] at h <;> cases p <;> simp [zrf, narrow, fits]
theorem zkn_long {t : FieldType} (h : zkn t = 2) (x : Int64) : narrow t (.long x) = .long x ∧ fits t (.long x) = true := by
  cases t <;> simp [zkn] at h <;> simp [narrow, fits]
theorem zs_putI (o : zOk G X cc own nL fr lo mc ms) {index c r k p : Nat} {x : Int32} (fl : zFL own index c k) (hf : zfk c k = 0) (hfin : ((zq c).2.1 k).2.2.2 = false) (hn : narrow (zty c k) (.int x) = .int x ∧ fits (zty c k) (.int x) = true) (hd : decode cc pc = .ok (.putfield index, 3)) (hk : zK h p = (c, r)) (hr : r ≠ 0)
    (kk : zW G X (sI h c r k p x) cl sl (pc + 3) L st) : zW G X h cl sl pc L (.int x :: zrf p :: st) :=
  zs_put (h' := sI h c r k p x) o fl hd hk hr (Or.inl hfin) hn rfl rfl rfl (fun p' hp c' r' k' => zV_sI p' hp c' r' k') (zV_wI hf) kk
theorem zs_putR (o : zOk G X cc own nL fr lo mc ms) {index c r k p : Nat} {x : Nat} (fl : zFL own index c k) (hf : zfk c k = 1) (hfin : ((zq c).2.1 k).2.2.2 = false) (hd : decode cc pc = .ok (.putfield index, 3)) (hk : zK h p = (c, r)) (hr : r ≠ 0)
    (kk : zW G X (sR h c r k p x) cl sl (pc + 3) L st) : zW G X h cl sl pc L (zrf x :: zrf p :: st) :=
  zs_put (h' := sR h c r k p x) o fl hd hk hr (Or.inl hfin) (zkn_ref hf x) rfl rfl rfl (fun p' hp c' r' k' => zV_sR p' hp c' r' k') (zV_wR hf) kk
theorem zs_putL (o : zOk G X cc own nL fr lo mc ms) {index c r k p : Nat} {x : Int64} (fl : zFL own index c k) (hf : zfk c k = 2) (hfin : ((zq c).2.1 k).2.2.2 = false) (hd : decode cc pc = .ok (.putfield index, 3)) (hk : zK h p = (c, r)) (hr : r ≠ 0)
    (kk : zW G X (sL h c r k p x) cl sl (pc + 3) L st) : zW G X h cl sl pc L (.long x :: zrf p :: st) :=
  zs_put (h' := sL h c r k p x) o fl hd hk hr (Or.inl hfin) (zkn_long hf x) rfl rfl rfl (fun p' hp c' r' k' => zV_sL p' hp c' r' k') (zV_wL hf) kk
theorem zs_putIF (o : zOk G X cc own nL fr lo mc ms) {index c r k p : Nat} {x : Int32} (hin : (Xt X).name = "<init>") (fl : zFL own index c k) (hf : zfk c k = 0) (hfin : ((zq c).2.1 k).2.2.2 = true ∧ ((zq c).2.1 k).1 = own) (hn : narrow (zty c k) (.int x) = .int x ∧ fits (zty c k) (.int x) = true) (hd : decode cc pc = .ok (.putfield index, 3)) (hk : zK h p = (c, r)) (hr : r ≠ 0)
    (kk : zW G X (sI h c r k p x) cl sl (pc + 3) L st) : zW G X h cl sl pc L (.int x :: zrf p :: st) :=
  zs_put (h' := sI h c r k p x) o fl hd hk hr (Or.inr ⟨hfin.1, hfin.2, hin⟩) hn rfl rfl rfl (fun p' hp c' r' k' => zV_sI p' hp c' r' k') (zV_wI hf) kk
theorem zs_putRF (o : zOk G X cc own nL fr lo mc ms) {index c r k p : Nat} {x : Nat} (hin : (Xt X).name = "<init>") (fl : zFL own index c k) (hf : zfk c k = 1) (hfin : ((zq c).2.1 k).2.2.2 = true ∧ ((zq c).2.1 k).1 = own) (hd : decode cc pc = .ok (.putfield index, 3)) (hk : zK h p = (c, r)) (hr : r ≠ 0)
    (kk : zW G X (sR h c r k p x) cl sl (pc + 3) L st) : zW G X h cl sl pc L (zrf x :: zrf p :: st) :=
  zs_put (h' := sR h c r k p x) o fl hd hk hr (Or.inr ⟨hfin.1, hfin.2, hin⟩) (zkn_ref hf x) rfl rfl rfl (fun p' hp c' r' k' => zV_sR p' hp c' r' k') (zV_wR hf) kk
theorem zs_putLF (o : zOk G X cc own nL fr lo mc ms) {index c r k p : Nat} {x : Int64} (hin : (Xt X).name = "<init>") (fl : zFL own index c k) (hf : zfk c k = 2) (hfin : ((zq c).2.1 k).2.2.2 = true ∧ ((zq c).2.1 k).1 = own) (hd : decode cc pc = .ok (.putfield index, 3)) (hk : zK h p = (c, r)) (hr : r ≠ 0)
    (kk : zW G X (sL h c r k p x) cl sl (pc + 3) L st) : zW G X h cl sl pc L (.long x :: zrf p :: st) :=
  zs_put (h' := sL h c r k p x) o fl hd hk hr (Or.inr ⟨hfin.1, hfin.2, hin⟩) (zkn_long hf x) rfl rfl rfl (fun p' hp c' r' k' => zV_sL p' hp c' r' k') (zV_wL hf) kk
/-! arrays -/
theorem zs_iaload (o : zOk G X cc own nL fr lo mc ms) {r p : Nat} {i : Int32} (hd : decode cc pc = .ok (.iaload, 1)) (hk : zK h p = (201, r)) (hi : vp_in i (zN h p)) (kk : zW G X h cl sl (pc + 1) L (.int (zI h 201 r i.toNatClampNeg p) :: st)) : zW G X h cl sl pc L (.int i :: zrf p :: st) := by
  intro H locs ls hR hl hL
  obtain ⟨a, rfl, hb, hc⟩ := hR.arr hk (by decide)
  have hlt : i.toNatClampNeg < zN h (a + 1) := Nat.not_le.mp fun q => hi (Or.inr q)
  refine W.iald (v := .int (zI h 201 r i.toNatClampNeg (a + 1))) o.x o.b hc ((o.k.arr (c := 201) (by decide) (by decide)).1 _ _) (fun q => by cases q) (by rw [arrV_size]; exact hi) ?_ rfl rfl hd (kk H locs ls hR hl hL)
  rw [arrV_read _ _ hlt]; rfl
theorem zs_baload (o : zOk G X cc own nL fr lo mc ms) {r p : Nat} {i : Int32} (hd : decode cc pc = .ok (.baload, 1)) (hk : zK h p = (202, r)) (hi : vp_in i (zN h p)) (kk : zW G X h cl sl (pc + 1) L (.int (zI h 202 r i.toNatClampNeg p) :: st)) : zW G X h cl sl pc L (.int i :: zrf p :: st) := by
  intro H locs ls hR hl hL
  obtain ⟨a, rfl, hb, hc⟩ := hR.arr hk (by decide)
  have hlt : i.toNatClampNeg < zN h (a + 1) := Nat.not_le.mp fun q => hi (Or.inr q)
  refine W.zald (v := .int (zI h 202 r i.toNatClampNeg (a + 1))) o.x o.b hc ((o.k.arr (c := 202) (by decide) (by decide)).1 _ _) (fun q => by cases q) (by rw [arrV_size]; exact hi) ?_ rfl rfl hd (kk H locs ls hR hl hL)
  rw [arrV_read _ _ hlt]; rfl
theorem zs_baloadB (o : zOk G X cc own nL fr lo mc ms) {r p : Nat} {i : Int32} (hd : decode cc pc = .ok (.baload, 1)) (hk : zK h p = (207, r)) (hi : vp_in i (zN h p)) (kk : zW G X h cl sl (pc + 1) L (.int (zI h 207 r i.toNatClampNeg p) :: st)) : zW G X h cl sl pc L (.int i :: zrf p :: st) := by
  intro H locs ls hR hl hL
  obtain ⟨a, rfl, hb, hc⟩ := hR.arr hk (by decide)
  have hlt : i.toNatClampNeg < zN h (a + 1) := Nat.not_le.mp fun q => hi (Or.inr q)
  refine W.bald (v := .int (zI h 207 r i.toNatClampNeg (a + 1))) o.x o.b hc ((o.k.arr (c := 207) (by decide) (by decide)).1 _ _) (fun q => by cases q) (by rw [arrV_size]; exact hi) ?_ rfl rfl hd (kk H locs ls hR hl hL)
  rw [arrV_read _ _ hlt]; rfl
theorem zs_laload (o : zOk G X cc own nL fr lo mc ms) {r p : Nat} {i : Int32} (hd : decode cc pc = .ok (.laload, 1)) (hk : zK h p = (203, r)) (hi : vp_in i (zN h p)) (kk : zW G X h cl sl (pc + 1) L (.long (zL h 203 r i.toNatClampNeg p) :: st)) : zW G X h cl sl pc L (.int i :: zrf p :: st) := by
  intro H locs ls hR hl hL
  obtain ⟨a, rfl, hb, hc⟩ := hR.arr hk (by decide)
  have hlt : i.toNatClampNeg < zN h (a + 1) := Nat.not_le.mp fun q => hi (Or.inr q)
  refine W.lald (v := .long (zL h 203 r i.toNatClampNeg (a + 1))) o.x o.b hc ((o.k.arr (c := 203) (by decide) (by decide)).1 _ _) (fun q => by cases q) (by rw [arrV_size]; exact hi) ?_ rfl rfl hd (kk H locs ls hR hl hL)
  rw [arrV_read _ _ hlt]; rfl
theorem zs_daload (o : zOk G X cc own nL fr lo mc ms) {r p : Nat} {i : Int32} (hd : decode cc pc = .ok (.daload, 1)) (hk : zK h p = (204, r)) (hi : vp_in i (zN h p)) (kk : zW G X h cl sl (pc + 1) L (.double (zD h 204 r i.toNatClampNeg p) :: st)) : zW G X h cl sl pc L (.int i :: zrf p :: st) := by
  intro H locs ls hR hl hL
  obtain ⟨a, rfl, hb, hc⟩ := hR.arr hk (by decide)
  have hlt : i.toNatClampNeg < zN h (a + 1) := Nat.not_le.mp fun q => hi (Or.inr q)
  refine W.dald (v := .double (zD h 204 r i.toNatClampNeg (a + 1))) o.x o.b hc ((o.k.arr (c := 204) (by decide) (by decide)).1 _ _) (fun q => by cases q) (by rw [arrV_size]; exact hi) ?_ rfl rfl hd (kk H locs ls hR hl hL)
  rw [arrV_read _ _ hlt]; rfl
theorem zs_aaload (o : zOk G X cc own nL fr lo mc ms) {c r p : Nat} {i : Int32} (hc2 : c = 205 ∨ c = 206 ∨ c = 208) (hd : decode cc pc = .ok (.aaload, 1)) (hk : zK h p = (c, r)) (hi : vp_in i (zN h p)) (kk : zW G X h cl sl (pc + 1) L (zrf (zR h c r i.toNatClampNeg p) :: st)) : zW G X h cl sl pc L (.int i :: zrf p :: st) := by
  intro H locs ls hR hl hL
  obtain ⟨a, rfl, hb, hc⟩ := hR.arr hk (by omega)
  have hlt : i.toNatClampNeg < zN h (a + 1) := Nat.not_le.mp fun q => hi (Or.inr q)
  refine W.aald (v := zrf (zR h c r i.toNatClampNeg (a + 1))) (ty := zaty c) o.x o.b hc ((o.k.arr (c := c) (by omega) (by omega)).1 _ _) (by rcases hc2 with rfl | rfl | rfl <;> rfl) (fun q => by cases q) (by rw [arrV_size]; exact hi) ?_ rfl rfl hd (kk H locs ls hR hl hL)
  rw [arrV_read _ _ hlt]
  unfold zA
  rw [if_neg (by omega), if_neg (by omega), if_pos hc2]
theorem zs_alen (o : zOk G X cc own nL fr lo mc ms) {c r p : Nat} (h1 : 201 ≤ c ∧ c ≤ 208) (hd : decode cc pc = .ok (.arraylength, 1)) (hk : zK h p = (c, r)) (kk : zW G X h cl sl (pc + 1) L (.int (nI (zN h p)) :: st)) : zW G X h cl sl pc L (zrf p :: st) := by
  intro H locs ls hR hl hL
  obtain ⟨a, rfl, hb, hc⟩ := hR.arr hk (by omega)
  exact W.alen (n := nI (zN h (a + 1))) o.x o.b hc ((o.k.arr (c := c) h1.1 h1.2).1 _ _) (by rw [arrV_size] <;> rfl) rfl rfl hd (kk H locs ls hR hl hL)
/-- a write into an array: h' is h with place j of p set to v -/
theorem zarr_put {c r p a j : Nat} {v : Value} {h' : zH} {H H' : Heap} (hR : Rep G h H) (hp : p = a + 1) (hk : zK h p = (c, r)) (h1 : 200 ≤ c) (hb : zB G ≤ a) (hc : H[a]? = some (arrV (zGa G c) (zN h p) (zA h c r p)))
    (e1 : zT h' = zT h) (e2 : zK h' = zK h) (e3 : zN h' = zN h) (hv : ∀ p', p' ≠ p → ∀ c r k, zV h' c r p' k = zV h c r p' k ∧ zA h' c r p' k = zA h c r p' k) (hw : ∀ i, zA h' c r p i = updV (zA h c r p) j v i)
    (g1 : H'[a]? = some ((arrV (zGa G c) (zN h p) (zA h c r p)).setSlot j v)) (g2 : H'.size = H.size) (g3 : ∀ q, q ≠ a → H'[q]? = H[q]?) : Rep G h' H' := by
  subst hp
  refine hR.put e1 e2 e3 g2 g3 hb hv ?_
  unfold zat
  rw [e2, e3, hk]
  refine Or.inr ⟨a, rfl, fun _ => hb, Or.inr ⟨h1, ?_⟩⟩
  rw [g1, arrV_store, show zA h' c r (a + 1) = updV (zA h c r (a + 1)) j v from funext hw]
theorem zloc {locs : List Loc} {a j : Nat} {H H' : Heap} (hl : zLo G X H locs) (g2 : H'.size = H.size) (hb : zB G ≤ a) : zLo G X H' (locs ++ [(⟨a, j⟩ : Loc)]) := ⟨fun q hq => by
  rcases List.mem_append.mp hq with h9 | h9
  · exact hl.1 q h9
  · rw [List.mem_singleton.mp h9]; exact hb, by rw [g2]; exact hl.2⟩
theorem zA_wI {h : zH} {c r j p : Nat} {x : Int32} (h2 : c = 201 ∨ c = 202 ∨ c = 207) (i : Nat) : zA (sI h c r j p x) c r p i = updV (zA h c r p) j (.int x) i := by
  unfold updV zA
  rw [if_neg (by omega), if_neg (by omega), if_neg (by omega)]
  by_cases e : i = j
  · subst e
    rw [if_pos rfl]
    show Value.int (p4 (zI h) c r i p x c r i p) = _
    rw [p4_at]
  · rw [if_neg e, if_neg (by omega), if_neg (by omega), if_neg (by omega)]
    show Value.int (p4 (zI h) c r j p x c r i p) = _
    rw [p4_nf e]
theorem zs_iastore (o : zOk G X cc own nL fr lo mc ms) {r p : Nat} {i x : Int32} (hd : decode cc pc = .ok (.iastore, 1)) (hk : zK h p = (201, r)) (hr : r ≠ 0) (hi : vp_in i (zN h p)) (kk : zW G X (sI h 201 r i.toNatClampNeg p x) cl sl (pc + 1) L st) : zW G X h cl sl pc L (.int x :: .int i :: zrf p :: st) := by
  intro H locs ls hR hl hL
  obtain ⟨a, rfl, hb, hc⟩ := hR.arr hk (by decide)
  exact W.iast o.x o.b hc ((o.k.arr (c := 201) (by decide) (by decide)).1 _ _) (fun q => by cases q) (by rw [arrV_size]; exact hi) rfl rfl hd fun H' g1 g2 g3 =>
    kk H' _ ls (zarr_put hR rfl hk (by decide) (hb hr) hc rfl rfl rfl (fun p' hp c' r' k' => zV_sI p' hp c' r' k') (zA_wI (Or.inl rfl)) g1 g2 g3) (zloc hl g2 (hb hr)) hL
theorem zs_bastore (o : zOk G X cc own nL fr lo mc ms) {r p : Nat} {i x : Int32} (hx : narrow .boolean (.int x) = .int x) (hd : decode cc pc = .ok (.bastore, 1)) (hk : zK h p = (202, r)) (hr : r ≠ 0) (hi : vp_in i (zN h p)) (kk : zW G X (sI h 202 r i.toNatClampNeg p x) cl sl (pc + 1) L st) : zW G X h cl sl pc L (.int x :: .int i :: zrf p :: st) := by
  intro H locs ls hR hl hL
  obtain ⟨a, rfl, hb, hc⟩ := hR.arr hk (by decide)
  exact W.zast o.x o.b hc ((o.k.arr (c := 202) (by decide) (by decide)).1 _ _) (fun q => by cases q) (by rw [arrV_size]; exact hi) rfl rfl hd fun H' g1 g2 g3 =>
    kk H' _ ls (zarr_put hR rfl hk (by decide) (hb hr) hc rfl rfl rfl (fun p' hp c' r' k' => zV_sI p' hp c' r' k') (zA_wI (Or.inr (Or.inl rfl))) (by rw [hx] at g1; exact g1) g2 g3) (zloc hl g2 (hb hr)) hL
theorem zs_lastore (o : zOk G X cc own nL fr lo mc ms) {r p : Nat} {i : Int32} {x : Int64} (hd : decode cc pc = .ok (.lastore, 1)) (hk : zK h p = (203, r)) (hr : r ≠ 0) (hi : vp_in i (zN h p)) (kk : zW G X (sL h 203 r i.toNatClampNeg p x) cl sl (pc + 1) L st) : zW G X h cl sl pc L (.long x :: .int i :: zrf p :: st) := by
  intro H locs ls hR hl hL
  obtain ⟨a, rfl, hb, hc⟩ := hR.arr hk (by decide)
  refine W.last o.x o.b hc ((o.k.arr (c := 203) (by decide) (by decide)).1 _ _) (fun q => by cases q) (by rw [arrV_size]; exact hi) rfl rfl hd fun H' g1 g2 g3 =>
    kk H' _ ls (zarr_put hR rfl hk (by decide) (hb hr) hc rfl rfl rfl (fun p' hp c' r' k' => zV_sL p' hp c' r' k') ?_ g1 g2 g3) (zloc hl g2 (hb hr)) hL
  intro j
  unfold updV zA
  rw [if_pos rfl]
  by_cases e : j = i.toNatClampNeg
  · rw [if_pos e, e]
    show Value.long (p4 (zL h) 203 r _ (a + 1) x 203 r _ (a + 1)) = _
    rw [p4_at]
  · rw [if_neg e, if_pos rfl]
    show Value.long (p4 (zL h) 203 r _ (a + 1) x 203 r j (a + 1)) = _
    rw [p4_nf e]
theorem zs_dastore (o : zOk G X cc own nL fr lo mc ms) {r p : Nat} {i : Int32} {x : UInt64} (hd : decode cc pc = .ok (.dastore, 1)) (hk : zK h p = (204, r)) (hr : r ≠ 0) (hi : vp_in i (zN h p)) (kk : zW G X (sD h 204 r i.toNatClampNeg p x) cl sl (pc + 1) L st) : zW G X h cl sl pc L (.double x :: .int i :: zrf p :: st) := by
  intro H locs ls hR hl hL
  obtain ⟨a, rfl, hb, hc⟩ := hR.arr hk (by decide)
  refine W.dast o.x o.b hc ((o.k.arr (c := 204) (by decide) (by decide)).1 _ _) (fun q => by cases q) (by rw [arrV_size]; exact hi) rfl rfl hd fun H' g1 g2 g3 =>
    kk H' _ ls (zarr_put hR rfl hk (by decide) (hb hr) hc rfl rfl rfl (fun p' hp c' r' k' => zV_sD p' hp c' r' k') ?_ g1 g2 g3) (zloc hl g2 (hb hr)) hL
  intro j
  unfold updV zA
  rw [if_neg (by decide), if_pos rfl]
  by_cases e : j = i.toNatClampNeg
  · rw [if_pos e, e]
    show Value.double (p4 (zD h) 204 r _ (a + 1) x 204 r _ (a + 1)) = _
    rw [p4_at]
  · rw [if_neg e, if_neg (by decide), if_pos rfl]
    show Value.double (p4 (zD h) 204 r _ (a + 1) x 204 r j (a + 1)) = _
    rw [p4_nf e]
end HP
