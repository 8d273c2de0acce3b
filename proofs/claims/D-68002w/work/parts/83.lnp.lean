/-! ===== lines of the tape: pure ===== -/
theorem tw_or (x : Int) : ∀ (l : List Int), (l.takeWhile (fun c => c != x)).length = l.length ∨ l[(l.takeWhile (fun c => c != x)).length]? = some x
  | [] => Or.inl rfl
  | c :: l => by
    rw [List.takeWhile_cons]
    by_cases h : c = x
    · rw [if_neg (by simpa using h)]
      exact Or.inr (by rw [h]; rfl)
    · rw [if_pos (by simpa using h), List.length_cons, List.length_cons]
      rcases tw_or x l with z | z
      · exact Or.inl (by rw [z])
      · exact Or.inr (by rw [List.getElem?_cons_succ]; exact z)
theorem nxt_or {cs : List Int} {x : Int} {a t : Nat} (h : a ≤ t ∧ t ≤ cs.length) : nxt cs x a t = t ∨ cs[nxt cs x a t]? = some x := by
  have hl := sl_len (xs := cs) (f := a) h.2
  have hle := nxt_le (cs := cs) (x := x) h.1
  rcases tw_or x (sl cs a t) with z | z
  · exact Or.inl (by unfold nxt; rw [z, hl]; omega)
  · refine Or.inr ?_
    have h1 := (List.getElem?_eq_some_iff.mp z).1
    rw [hl] at h1
    rw [sl_get (by omega)] at z
    exact z
theorem sl_sl {xs : List Int} {a e f t : Nat} (h : a + t ≤ e ∧ e ≤ xs.length) : sl (sl xs a e) f t = sl xs (a + f) (a + t) := by
  unfold sl
  rw [List.take_drop, List.drop_drop, List.take_take, Nat.min_eq_left h.1]
theorem ixo_sl {xs : List Int} {z : Int} {a e : Nat} (h : a ≤ e ∧ e ≤ xs.length) : ixo (sl xs a e) z = if nxt xs z a e < e then ((nxt xs z a e - a : Nat) : Int) else -1 := by
  have hl := sl_len (xs := xs) (f := a) h.2
  have hle := nxt_le (cs := xs) (x := z) h.1
  have h1 : nxt (sl xs a e) z 0 (sl xs a e).length = nxt xs z a e - a := by
    unfold nxt
    rw [sl_all]; omega
  unfold ixo
  rw [h1, hl]
  by_cases g : nxt xs z a e < e
  · rw [if_pos g, if_pos (by omega)]
  · rw [if_neg g, if_neg (by omega)]
/-- a line's place of the newline, of the colon -/
abbrev lnE (tx : List Int) (a : Nat) : Nat := nxt tx 10 a tx.length
abbrev lnK (tx : List Int) (a : Nat) : Nat := nxt tx 58 a (lnE tx a)
def lnT (tx : List Int) (a : Nat) (T : Txt) : Txt := if okl tx a = true then addL T (nmOf tx (a, lnK tx a, lnE tx a)) (vlOf tx (a, lnK tx a, lnE tx a)) else T
theorem okl_iff (tx : List Int) (a : Nat) : okl tx a = (decide (lnE tx a < tx.length ∧ lnK tx a < lnE tx a) && isNm (sl tx a (lnK tx a))) := rfl
theorem b2i_eq {a b : Bool} (h : a = b) : b2i a = b2i b := by rw [h]
