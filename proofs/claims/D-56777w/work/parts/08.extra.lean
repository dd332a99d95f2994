/-! MORE ROWS -/
set_option maxRecDepth 100000
theorem zrf_cat (p : Nat) : (zrf p).category = 1 := by cases p <;> rfl
section EX
variable {G : zG} {X : zX} {cc : ByteArray} {own : String} {nL fr lo mc ms cl sl pc : Nat} {h : zH} {L : List (Option Value)} {st : List Value}
theorem zs_nul (o : zOk G X cc own nL fr lo mc ms) (hd : decode cc pc = .ok (.aconst_null, 1)) (k : zW G X h cl sl (pc + 1) L (zrf 0 :: st)) : zW G X h cl sl pc L st := zs_null o hd k
/-- a place where paths meet with an int on the stack -/
theorem zs_join {st' : List Value} {t : Nat} (P : Int32 → Prop) (k : ∀ x, P x → zW G X h cl sl t L (.int x :: st)) (w : (∀ x, P x → zW G X h cl sl t L (.int x :: st)) → zW G X h cl sl pc L st') : zW G X h cl sl pc L st' := w k
theorem zs_name {x : Int32} {i : Nat} {L' : List (Option Value)} (hx : L[i]? = some (some (.int x))) (e : L.set i (some (.int x)) = L') (k : zW G X h cl sl pc L' st) : zW G X h cl sl pc L st := by
  refine zforget k (fun j v hj => ?_)
  rw [← e] at hj
  by_cases hij : j = i
  · subst hij
    rw [List.getElem?_set] at hj
    simp at hj
    rw [hx, hj.2]
  · rw [List.getElem?_set_ne (Ne.symm hij)] at hj
    exact hj
end EX
/-! ints: by their value -/
theorem vp_in_lt {x : Int32} {n : Nat} (h0 : 0 ≤ x.toInt) (h1 : x.toInt < n) : vp_in x n := vp_in_iff.mpr ⟨h0, h1⟩
theorem zz_bool {x : Int32} (h : x = 0 ∨ x = 1) : narrow .boolean (.int x) = .int x ∧ fits .boolean (.int x) = true := by
  rcases h with rfl | rfl <;> exact ⟨rfl, rfl⟩
