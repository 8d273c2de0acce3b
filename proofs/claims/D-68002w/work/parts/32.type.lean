/-! ===== typing ===== -/
theorem rg_bc (w : Int64) (s : Nat) : rg (bc w s) := by
  unfold bc
  have h1 := (byt w s).toInt32.toInt_lt
  have h2 := (byt w s).toInt32.le_toInt
  omega
def okc (c : Int) : Bool := decide (c = 10 ∨ (32 ≤ c ∧ c ≤ 126))
def tyH (w : Int64) (n j : Nat) : List Int := (List.range j).map (fun k => bc w (n - 1 - k))
theorem tyH_len (w : Int64) (n j : Nat) : (tyH w n j).length = j := by unfold tyH; rw [List.length_map, List.length_range]
theorem tyH_s (w : Int64) (n j : Nat) : tyH w n (j + 1) = tyH w n j ++ [bc w (n - 1 - j)] := by unfold tyH; rw [List.range_succ, List.map_append]; rfl
def tyOk (w : Int64) (z : Int) (L : Nat) : Bool := decide (1 ≤ z ∧ z ≤ 8 ∧ (L : Int) + z ≤ 300) && (List.range z.toNat).all (fun k => okc (bc w k))
theorem tyH_chs {w : Int64} {n : Nat} (h : (List.range n).all (fun k => okc (bc w k)) = true) : chs (tyH w n n) := by
  intro c hc
  obtain ⟨k, hk, rfl⟩ := List.mem_map.mp hc
  have hk := List.mem_range.mp hk
  have h1 := List.all_eq_true.mp h (n - 1 - k) (List.mem_range.mpr (by omega))
  have h2 := of_decide_eq_true h1
  omega
theorem fill_pad {zs pad : List Int} {c : Int} {i : Nat} {j : Nat} (hi : i = zs.length) (hj : j < pad.length) : (zs ++ pad.drop j).set i c = (zs ++ [c]) ++ pad.drop (j + 1) := by
  subst hi
  rw [List.set_append_right _ _ (Nat.le_refl _), Nat.sub_self, List.drop_eq_getElem_cons hj, List.set_cons_zero, List.append_assoc]; rfl
