/-! ===== pure: rows from numbers, numbers from rows ===== -/
abbrev byt (w : Int64) (s : Nat) : Int64 := (w.toUInt64 >>> ((iI (8 * (s : Int))).toInt64.toUInt64 &&& Int64.toUInt64 63)).toInt64 &&& 255
def bc (w : Int64) (s : Nat) : Int := (byt w s).toInt32.toInt
theorem bc_i (w : Int64) (s : Nat) : (byt w s).toInt32 = iI (bc w s) := (Int32.ofInt_toInt _).symm
def bn (w : Int64) : Nat → Nat
  | 0 => 0
  | s + 1 => bn w s + (if byt w s = 0 then 0 else 1)
theorem bn_le (w : Int64) : ∀ s, bn w s ≤ s
  | 0 => Nat.le_refl 0
  | s + 1 => by have := bn_le w s; unfold bn; split <;> omega
def nmH (w : Int64) (k : Nat) : List Int := (List.range k).map (fun j => bc w (bn w 8 - 1 - j))
def nmL (u v : Int64) : List Int := nmH u (bn u 8) ++ nmH v (bn v 8)
theorem nmH_len (w : Int64) (k : Nat) : (nmH w k).length = k := by unfold nmH; rw [List.length_map, List.length_range]
theorem nmH_s (w : Int64) (k : Nat) : nmH w (k + 1) = nmH w k ++ [bc w (bn w 8 - 1 - k)] := by unfold nmH; rw [List.range_succ, List.map_append]; rfl
theorem nmL_len (u v : Int64) : (nmL u v).length = bn u 8 + bn v 8 := by unfold nmL; rw [List.length_append, nmH_len, nmH_len]
theorem nmL_16 (u v : Int64) : (nmL u v).length ≤ 16 := by rw [nmL_len]; have := bn_le u 8; have := bn_le v 8; omega
def numV (xs : List Int) : Int := xs.foldl (fun v c => 10 * v + c - 48) 0
theorem numV_s (xs : List Int) (c : Int) : numV (xs ++ [c]) = 10 * numV xs + c - 48 := by unfold numV; rw [List.foldl_append]; rfl
def numOf (xs : List Int) : Int := if 1 ≤ xs.length ∧ xs.length ≤ 6 ∧ xs.all isDg = true then numV xs else -1
theorem numV_rg : ∀ (n : Nat) (xs : List Int), xs.length = n → xs.all isDg = true → 0 ≤ numV xs ∧ numV xs < 10 ^ n := by
  intro n
  induction n with
  | zero => intro xs h _; rw [List.eq_nil_of_length_eq_zero h]; decide
  | succ n ih =>
    intro xs hn h
    rcases List.eq_nil_or_concat xs with q | ⟨ys, c, rfl⟩
    · rw [q] at hn; cases hn
    · rw [List.concat_eq_append] at h hn ⊢
      rw [List.all_append, Bool.and_eq_true] at h
      obtain ⟨h1, h2⟩ := h
      rw [List.length_append, List.length_singleton] at hn
      have h3 := ih ys (by omega) h1
      have hc : 48 ≤ c ∧ c ≤ 57 := by simpa [isDg] using h2
      rw [numV_s, Int.pow_succ]
      omega
theorem numOf_rg (xs : List Int) : -1 ≤ numOf xs ∧ numOf xs < 1000000 := by
  unfold numOf
  split
  · rename_i h
    have h1 := numV_rg _ xs rfl h.2.2
    have h2 : (10 : Int) ^ xs.length ≤ 10 ^ 6 := by
      have : xs.length = 1 ∨ xs.length = 2 ∨ xs.length = 3 ∨ xs.length = 4 ∨ xs.length = 5 ∨ xs.length = 6 := by omega
      rcases this with q | q | q | q | q | q <;> rw [q] <;> decide
    have h3 : (10 : Int) ^ 6 = 1000000 := by decide
    omega
  · decide
theorem sl_to {xs : List Int} (f : Nat) : sl xs f xs.length = xs.drop f := by unfold sl; rw [List.take_length]
theorem all_sl {xs : List Int} {f j : Nat} {c : Int} {q : Int → Bool} (h : xs[j]? = some c) (hf : f ≤ j) : (sl xs f (j + 1)).all q = ((sl xs f j).all q && q c) := by
  rw [sl_snoc h hf, List.all_append]; simp
theorem map_fill {xs : List Int} {g : Int → Int} {j n : Nat} {c : Int} (h : xs[j]? = some c) : ((sl xs 0 j).map g ++ List.replicate (n + 1) 0).set j (g c) = (sl xs 0 (j + 1)).map g ++ List.replicate n 0 := by
  have hl := (List.getElem?_eq_some_iff.mp h).1
  rw [fill_set (by rw [List.length_map, sl_len (by omega)]; omega), sl_snoc h (Nat.zero_le _), List.map_append]; rfl
theorem app_fill {zs xs : List Int} {j n i : Nat} {c : Int} (h : xs[j]? = some c) (hi : i = zs.length + j) : (zs ++ sl xs 0 j ++ List.replicate (n + 1) 0).set i c = zs ++ sl xs 0 (j + 1) ++ List.replicate n 0 := by
  have hl := (List.getElem?_eq_some_iff.mp h).1
  rw [fill_set (by rw [List.length_append, sl_len (by omega)]; omega), sl_snoc h (Nat.zero_le _), List.append_assoc, List.append_assoc, List.append_assoc, List.append_assoc]
theorem eq_drop {xs ys : List Int} {j : Nat} {c e : Int} (h1 : xs[j]? = some c) (h2 : ys[j]? = some e) : xs.drop j = ys.drop j ↔ c = e ∧ xs.drop (j + 1) = ys.drop (j + 1) := by
  obtain ⟨a1, a2⟩ := List.getElem?_eq_some_iff.mp h1
  obtain ⟨b1, b2⟩ := List.getElem?_eq_some_iff.mp h2
  rw [List.drop_eq_getElem_cons a1, List.drop_eq_getElem_cons b1, List.cons.injEq, a2, b2]
