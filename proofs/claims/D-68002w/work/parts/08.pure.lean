/-! ===== rows of Ints: pure words ===== -/
def b2i (b : Bool) : Int := if b then 1 else 0
theorem b2i_t : b2i true = 1 := rfl
theorem b2i_f : b2i false = 0 := rfl
theorem b2i_rg (b : Bool) : 0 ≤ b2i b ∧ b2i b ≤ 1 := by cases b <;> decide
theorem b2i_1 {b : Bool} : b2i b = 0 ↔ b = false := by cases b <;> decide
theorem b2i_nar (b : Bool) : narrow .boolean (.int (iI (b2i b))) = .int (iI (b2i b)) := by cases b <;> rfl
/-- characters: what a tape may hold -/
def chs (xs : List Int) : Prop := ∀ c ∈ xs, 0 ≤ c ∧ c < 128
theorem chs_nil : chs [] := fun c h => by cases h
theorem chs_app {xs ys : List Int} (h : chs xs) (h2 : chs ys) : chs (xs ++ ys) := fun c hc => by
  rcases List.mem_append.mp hc with q | q
  · exact h c q
  · exact h2 c q
theorem chs_sub {xs ys : List Int} (h : chs xs) (h2 : ∀ c ∈ ys, c ∈ xs) : chs ys := fun c hc => h c (h2 c hc)
def sl (xs : List Int) (f t : Nat) : List Int := (xs.take t).drop f
theorem sl_mem {xs : List Int} {f t : Nat} {c : Int} (h : c ∈ sl xs f t) : c ∈ xs := List.mem_of_mem_take (List.mem_of_mem_drop h)
theorem chs_sl {xs : List Int} (h : chs xs) (f t : Nat) : chs (sl xs f t) := chs_sub h fun _ hc => sl_mem hc
theorem sl_len {xs : List Int} {f t : Nat} (h : t ≤ xs.length) : (sl xs f t).length = t - f := by
  unfold sl; rw [List.length_drop, List.length_take]; omega
theorem sl_len_le (xs : List Int) (f t : Nat) : (sl xs f t).length ≤ t - f := by
  unfold sl; rw [List.length_drop, List.length_take]; omega
theorem sl_nil {xs : List Int} {f t : Nat} (h : t ≤ f) : sl xs f t = [] := by
  unfold sl; apply List.drop_eq_nil_of_le; rw [List.length_take]; omega
theorem sl_all (xs : List Int) : sl xs 0 xs.length = xs := by unfold sl; simp
theorem sl_cons {xs : List Int} {f t : Nat} {c : Int} (h : xs[f]? = some c) (hf : f < t) : sl xs f t = c :: sl xs (f + 1) t := by
  obtain ⟨hl, he⟩ := List.getElem?_eq_some_iff.mp h
  unfold sl
  have h1 : f < (xs.take t).length := by rw [List.length_take]; omega
  rw [List.drop_eq_getElem_cons h1, List.getElem_take, he]
theorem sl_snoc {xs : List Int} {f t : Nat} {c : Int} (h : xs[t]? = some c) (hf : f ≤ t) : sl xs f (t + 1) = sl xs f t ++ [c] := by
  obtain ⟨hl, he⟩ := List.getElem?_eq_some_iff.mp h
  unfold sl
  rw [List.take_succ_eq_append_getElem hl, List.drop_append_of_le_length (by rw [List.length_take]; omega), he]
theorem sl_get {xs : List Int} {f t i : Nat} (h : f + i < t) : (sl xs f t)[i]? = xs[f + i]? := by
  unfold sl; rw [List.getElem?_drop, List.getElem?_take, if_pos h]
/-- a row filled from its start -/
theorem fill_set {xs : List Int} {n : Nat} {c : Int} {i : Nat} (h : i = xs.length) : (xs ++ List.replicate (n + 1) 0).set i c = (xs ++ [c]) ++ List.replicate n 0 := by
  subst h
  rw [List.set_append_right _ _ (Nat.le_refl _), Nat.sub_self, List.replicate_succ, List.set_cons_zero, List.append_assoc]; rfl
def smI (c : Int) : Int := if 65 ≤ c ∧ c ≤ 90 then c + 32 else c
theorem smI_rg {c : Int} (h : 0 ≤ c ∧ c < 128) : 0 ≤ smI c ∧ smI c < 128 := by unfold smI; split <;> omega
def isDg (c : Int) : Bool := decide (48 ≤ c ∧ c ≤ 57)
def isNS (c : Int) : Bool := decide ((65 ≤ c ∧ c ≤ 90) ∨ (97 ≤ c ∧ c ≤ 122) ∨ (48 ≤ c ∧ c ≤ 57) ∨ c = 45)
def isNm (xs : List Int) : Bool := xs.all isNS && decide (0 < xs.length ∧ xs.length ≤ 16)
def trL (xs : List Int) : List Int := xs.dropWhile (fun c => c == 32)
def trim (xs : List Int) : List Int := (trL (trL xs).reverse).reverse
theorem trL_mem {xs : List Int} {c : Int} (h : c ∈ trL xs) : c ∈ xs := (List.dropWhile_sublist _).subset h
theorem trim_mem {xs : List Int} {c : Int} (h : c ∈ trim xs) : c ∈ xs := by
  unfold trim at h
  exact trL_mem (List.mem_reverse.mp (trL_mem (List.mem_reverse.mp h)))
theorem chs_trim {xs : List Int} (h : chs xs) : chs (trim xs) := chs_sub h fun _ hc => trim_mem hc
theorem trim_len (xs : List Int) : (trim xs).length ≤ xs.length := by
  unfold trim trL
  rw [List.length_reverse]
  refine Nat.le_trans (List.dropWhile_sublist _).length_le ?_
  rw [List.length_reverse]
  exact (List.dropWhile_sublist _).length_le
theorem trim_nil : trim [] = [] := rfl
theorem trim_b (xs : List Int) : trim (32 :: xs) = trim xs := by
  unfold trim trL; simp
theorem trL_snoc (xs : List Int) : trL (xs ++ [32]) = if trL xs = [] then [] else trL xs ++ [32] := by
  induction xs with
  | nil => rfl
  | cons c xs ih =>
    show List.dropWhile _ (c :: (xs ++ [32])) = _
    unfold trL at ih ⊢
    by_cases h : c = 32
    · subst h
      simp only [List.dropWhile_cons, beq_self_eq_true, if_true]
      exact ih
    · have h2 : (c == 32) = false := by simpa using h
      simp [List.dropWhile_cons, h2]
theorem trim_e (xs : List Int) : trim (xs ++ [32]) = trim xs := by
  unfold trim
  rw [trL_snoc]
  split
  · rename_i h; rw [h]
  · rw [List.reverse_append]
    show (trL (32 :: (trL xs).reverse)).reverse = _
    unfold trL; simp
theorem trim_id {xs : List Int} (h1 : ∀ c, xs.head? = some c → c ≠ 32) (h2 : ∀ c, xs.getLast? = some c → c ≠ 32) : trim xs = xs := by
  have key : ∀ ys : List Int, (∀ c, ys.head? = some c → c ≠ 32) → trL ys = ys := by
    intro ys h
    cases ys with
    | nil => rfl
    | cons c ys =>
      unfold trL
      rw [List.dropWhile_cons, if_neg]
      simpa using h c rfl
  unfold trim
  rw [key xs h1, key xs.reverse (by intro c hc; exact h2 c (by rw [List.head?_reverse] at hc; exact hc)), List.reverse_reverse]
theorem fill_sl {xs : List Int} {u j v : Nat} {c : Int} (h : xs[j]? = some c) (hu : u ≤ j) (hv : j < v) : (sl xs u j ++ List.replicate (v - j) 0).set (j - u) c = sl xs u (j + 1) ++ List.replicate (v - (j + 1)) 0 := by
  have hl := (List.getElem?_eq_some_iff.mp h).1
  obtain ⟨w, hw⟩ : ∃ w, v - j = w + 1 := ⟨v - j - 1, by omega⟩
  rw [hw, fill_set (by rw [sl_len (by omega)]), ← sl_snoc h hu, show v - (j + 1) = w by omega]
theorem sl_head {xs : List Int} {u v : Nat} {c : Int} (h : (sl xs u v).head? = some c) : xs[u]? = some c := by
  rw [List.head?_eq_getElem?] at h
  unfold sl at h
  rw [List.getElem?_drop, List.getElem?_take] at h
  split at h
  · simpa using h
  · cases h
theorem sl_last {xs : List Int} {u v : Nat} {c : Int} (hv : u < v ∧ v ≤ xs.length) (h : (sl xs u v).getLast? = some c) : xs[v - 1]? = some c := by
  obtain ⟨w, rfl⟩ : ∃ w, v = w + 1 := ⟨v - 1, by omega⟩
  have h1 : xs[w]? = some (xs.getD w 0) := getD_lt (by omega)
  rw [sl_snoc h1 (by omega), List.getLast?_append] at h
  simp at h
  rw [Nat.add_sub_cancel, h1, List.getD_eq_getElem?_getD, h]
