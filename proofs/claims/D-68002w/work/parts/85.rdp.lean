/-! ===== reading: pure ===== -/
theorem mrg_snoc (T : Txt) (l : List Int × List Int) : mrg (T ++ [l]) = addL (mrg T) l.1 l.2 := by unfold mrg; rw [List.foldl_append]; rfl
theorem tln_snoc (tx : List Int) (acc : Lns) (q : Nat × Nat × Nat) : tln tx (acc ++ [q]) = tln tx acc ++ [(nmOf tx q, vlOf tx q)] := by unfold tln; rw [List.map_append]; rfl
theorem lnT_ok {tx : List Int} {a : Nat} {acc : Lns} (h : okl tx a = true) : lnT tx a (mrg (tln tx acc)) = mrg (tln tx (acc ++ [(a, lnK tx a, lnE tx a)])) := by rw [lnT, if_pos h, tln_snoc, mrg_snoc]
/-- all that the values of a text's lines hold -/
def tsz (T : Txt) : Nat := (T.map (fun l => l.2.length + 1)).sum
theorem tsz_app (T U : Txt) : tsz (T ++ U) = tsz T + tsz U := by unfold tsz; rw [List.map_append, List.sum_append]
theorem tsz_set : ∀ (T : Txt) (k : Nat) (t u : List Int × List Int), T[k]? = some t → tsz (T.set k u) + (t.2.length + 1) = tsz T + (u.2.length + 1)
  | [], k, t, u, h => by simp at h
  | l :: T, 0, t, u, h => by cases h; unfold tsz; rw [List.set_cons_zero, List.map_cons, List.map_cons, List.sum_cons, List.sum_cons]; omega
  | l :: T, k + 1, t, u, h => by
    have := tsz_set T k t u h
    unfold tsz at this ⊢
    rw [List.set_cons_succ, List.map_cons, List.map_cons, List.sum_cons, List.sum_cons]
    omega
theorem addL_tsz (T : Txt) (n v : List Int) : tsz (addL T n v) = tsz T + (v.length + 1) := by
  unfold addL
  rcases hdF_or T n with ⟨h1, -⟩ | ⟨k, t, h1, h2, h3⟩
  · rw [if_pos h1, tsz_app]; rfl
  · rw [if_neg (by omega), h1, Int.toNat_natCast]
    have e : T.getD k ([], []) = t := by rw [List.getD_eq_getElem?_getD, h2]; rfl
    rw [e]
    have h4 := tsz_set T k t (n, t.2 ++ 44 :: v) h2
    have h5 : (t.2 ++ 44 :: v).length = t.2.length + (v.length + 1) := by rw [List.length_append, List.length_cons]
    rw [show ((n, t.2 ++ 44 :: v) : List Int × List Int).2 = t.2 ++ 44 :: v from rfl, h5] at h4
    omega
theorem mem_tsz {T : Txt} {t : List Int × List Int} (h : t ∈ T) : t.2.length + 1 ≤ tsz T := by
  induction T with
  | nil => cases h
  | cons l T ih =>
    have e : tsz (l :: T) = (l.2.length + 1) + tsz T := by unfold tsz; rw [List.map_cons, List.sum_cons]
    rw [e]
    rcases List.mem_cons.mp h with z | z
    · rw [z]; omega
    · have := ih z; omega
theorem hdV_tsz (T : Txt) (nm : List Int) : oL (hdV T nm) ≤ tsz T := by
  rcases hdF_or T nm with ⟨h1, h2⟩ | ⟨k, t, h1, h2, -⟩
  · rw [hdV_no h2]; exact Nat.zero_le _
  · rw [hdV_k h1 h2]
    have := mem_tsz (List.mem_of_getElem? h2)
    show t.2.length ≤ _
    omega
/-- what all the lists of a text's lines would cost -/
def fC (T : Txt) : Nat := (T.map (fun l => 7 * l.2.length + 20)).sum
def fS (T : Txt) : Nat := (T.map (fun l => 26 * l.2.length + 300)).sum
theorem uC_le : ∀ (cs : List Bool) (T : Txt), uC cs T ≤ fC T ∧ uS cs T ≤ fS T
  | [], T => ⟨by simp [uC], by simp [uS]⟩
  | c :: cs, [] => ⟨by simp [uC], by simp [uS]⟩
  | c :: cs, l :: T => by
    have h := uC_le cs T
    unfold fC fS at h ⊢
    rw [List.map_cons, List.sum_cons, List.map_cons, List.sum_cons]
    simp only [uC, uS]
    split <;> omega
theorem fC_tsz (T : Txt) : fC T ≤ 20 * tsz T ∧ fS T ≤ 300 * tsz T := by
  unfold fC fS tsz
  induction T with
  | nil => exact ⟨Nat.le_refl _, Nat.le_refl _⟩
  | cons l T ih => simp only [List.map_cons, List.sum_cons]; omega
theorem tsz_len (T : Txt) : T.length ≤ tsz T := by
  unfold tsz
  induction T with
  | nil => exact Nat.le_refl _
  | cons l T ih => simp only [List.map_cons, List.sum_cons, List.length_cons]; omega
theorem okl_n {tx : List Int} {a : Nat} (h : okl tx a = true) (ha : a < tx.length) : a < lnK tx a ∧ lnK tx a < lnE tx a ∧ lnE tx a < tx.length ∧ (vlOf tx (a, lnK tx a, lnE tx a)).length + lnK tx a + 1 ≤ lnE tx a := by
  rw [okl_iff, Bool.and_eq_true] at h
  have h1 := of_decide_eq_true h.1
  have h2 := isNm_pos h.2
  have h3 := sl_len_le tx a (lnK tx a)
  have h4 := trim_len (sl tx (lnK tx a + 1) (lnE tx a))
  have h5 := sl_len_le tx (lnK tx a + 1) (lnE tx a)
  have h6 : vlOf tx (a, lnK tx a, lnE tx a) = trim (sl tx (lnK tx a + 1) (lnE tx a)) := rfl
  rw [h6]
  omega
