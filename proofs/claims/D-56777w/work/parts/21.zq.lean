/-! WALKS OVER AN INVARIANT OF THE HEAP: zQ I .. : from every heap with I -/
set_option maxRecDepth 100000
def zQ (I : zH → Prop) (G : zG) (X : zX) (cl sl pc : Nat) (L : List (Option Value)) (st : List Value) : Prop := ∀ h, I h → zWf h → zW G X h cl sl pc L st
section ZQ
variable {I : zH → Prop} {G : zG} {X : zX} {cl sl pc : Nat} {L : List (Option Value)} {st : List Value}
theorem zQ.s {pc' : Nat} {L' : List (Option Value)} {st' : List Value} (e : ∀ h, zW G X h cl sl pc' L' st' → zW G X h cl sl pc L st) (k : zQ I G X cl sl pc' L' st') : zQ I G X cl sl pc L st := fun h hI hw => e h (k h hI hw)
theorem zQ.b {C D : Prop} {p1 p2 : Nat} {st1 st2 : List Value} (e : ∀ h, (C → zW G X h cl sl p1 L st1) → (D → zW G X h cl sl p2 L st2) → zW G X h cl sl pc L st) (k1 : C → zQ I G X cl sl p1 L st1) (k2 : D → zQ I G X cl sl p2 L st2) : zQ I G X cl sl pc L st := fun h hI hw => e h (fun c => k1 c h hI hw) (fun c => k2 c h hI hw)
theorem zQ.i {J : zH → Prop} (e : ∀ h, I h → J h) (k : zQ J G X cl sl pc L st) : zQ I G X cl sl pc L st := fun h hI hw => k h (e h hI) hw
theorem zQ.join {st' : List Value} {t : Nat} (P : Int32 → Prop) (k : ∀ x, P x → zQ I G X cl sl t L (.int x :: st)) (w : (∀ x, P x → zQ I G X cl sl t L (.int x :: st)) → zQ I G X cl sl pc L st') : zQ I G X cl sl pc L st' := w k
/-- a call that reads: the heap stays -/
theorem zQ.name {x : Int32} (k : ∀ y, y = x → zQ I G X cl sl pc L (.int y :: st)) : zQ I G X cl sl pc L (.int x :: st) := k x rfl
end ZQ
theorem dnS {P : Nat → Prop} (N : Nat) (hs : ∀ n, n ≤ N → (n < N → P (n + 1)) → P n) : ∀ n, n ≤ N → P n := by
  intro n hn
  induction hd : N - n generalizing n with
  | zero => exact hs n hn (fun h => by omega)
  | succ d ih => exact hs n hn (fun h => ih (n + 1) h (by omega))
