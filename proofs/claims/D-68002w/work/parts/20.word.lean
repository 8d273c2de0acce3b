/-! ===== words of cache-control ===== -/
def nIn (T : Txt) (nm : List Int) : Int := match vof T nm with
  | none => -1
  | some v => numOf v
theorem nIn_rg (T : Txt) (nm : List Int) : -1 ≤ nIn T nm ∧ nIn T nm < 1000000 := by
  unfold nIn
  split
  · decide
  · exact numOf_rg _
def eqi (xs : List Int) : Nat := (xs.takeWhile (fun c => c != 61)).length
theorem eqi_le (xs : List Int) : eqi xs ≤ xs.length := (List.takeWhile_sublist _).length_le
theorem eqi_of {xs : List Int} : ∀ {i : Nat}, (∀ c ∈ xs.take i, c ≠ 61) → i ≤ xs.length → (i = xs.length ∨ xs[i]? = some 61) → eqi xs = i := by
  induction xs with
  | nil => intro i _ h _; simp at h; subst h; rfl
  | cons c xs ih =>
    intro i h1 h2 h3
    cases i with
    | zero =>
      rcases h3 with h3 | h3
      · simp at h3
      · simp at h3
        subst h3
        simp [eqi]
    | succ i =>
      have hc : c ≠ 61 := h1 c (by simp)
      have h4 : eqi xs = i := ih (fun d hd => h1 d (by rw [List.take_succ_cons]; exact List.mem_cons_of_mem _ hd)) (by simp at h2; omega) (by
        rcases h3 with h3 | h3
        · left; simp at h3; omega
        · right; simpa using h3)
      unfold eqi at h4 ⊢
      rw [List.takeWhile_cons, if_pos (by simpa using hc), List.length_cons, h4]
abbrev isW (nm x : List Int) : Prop := isNm (x.take (eqi x)) = true ∧ x.take (eqi x) = nm
def wOne (nm : List Int) (f : Int) (x : List Int) : Int := if isW nm x then (if eqi x = x.length then -1 else if 0 ≤ numOf (x.drop (eqi x + 1)) then numOf (x.drop (eqi x + 1)) else f) else f
def wStep (nm : List Int) (f : Int) (x : List Int) : Int := wOne nm f (x.map smI)
/-- a word of a value: -2 absent, -1 without a number, its number -/
def wrd (v : Option (List Int)) (nm : List Int) : Int := match v with
  | none => -2
  | some x => (lst x).foldl (wStep nm) (-2)
theorem wOne_rg (nm : List Int) {f : Int} (x : List Int) (h : -2 ≤ f ∧ f < 1000000) : -2 ≤ wOne nm f x ∧ wOne nm f x < 1000000 := by
  have h1 := numOf_rg (x.drop (eqi x + 1))
  unfold wOne
  split
  · split
    · decide
    · split
      · omega
      · exact h
  · exact h
theorem wfold_rg (nm : List Int) : ∀ (xs : List (List Int)) (f : Int), (-2 ≤ f ∧ f < 1000000) → -2 ≤ xs.foldl (wStep nm) f ∧ xs.foldl (wStep nm) f < 1000000
  | [], f, h => h
  | x :: xs, f, h => wfold_rg nm xs _ (wOne_rg nm _ h)
theorem wrd_rg (v : Option (List Int)) (nm : List Int) : -2 ≤ wrd v nm ∧ wrd v nm < 1000000 := by
  unfold wrd
  split
  · decide
  · exact wfold_rg nm _ _ (by decide)
def wC (v : Option (List Int)) : Nat := match v with
  | none => 0
  | some x => 2 * x.length + 4
def wS (v : Option (List Int)) : Nat := match v with
  | none => 0
  | some x => 3 * x.length + 3
theorem sum_drop {xs : List (List Int)} {j : Nat} {x : List Int} (h : xs[j]? = some x) : ((xs.drop j).map List.length).sum = x.length + ((xs.drop (j + 1)).map List.length).sum := by
  obtain ⟨h1, h2⟩ := List.getElem?_eq_some_iff.mp h
  rw [List.drop_eq_getElem_cons h1, h2, List.map_cons, List.sum_cons]
theorem fold_drop {xs : List (List Int)} {j : Nat} {x : List Int} {g : Int → List Int → Int} {f : Int} (h : xs[j]? = some x) : (xs.drop j).foldl g f = (xs.drop (j + 1)).foldl g (g f x) := by
  obtain ⟨h1, h2⟩ := List.getElem?_eq_some_iff.mp h
  rw [List.drop_eq_getElem_cons h1, h2, List.foldl_cons]
theorem chs_map {xs : List Int} (h : chs xs) : chs (xs.map smI) := by
  intro c hc
  obtain ⟨d, hd, rfl⟩ := List.mem_map.mp hc
  exact smI_rg (h d hd)
theorem sl_0 (xs : List Int) (t : Nat) : sl xs 0 t = xs.take t := by unfold sl; rw [List.drop_zero]
