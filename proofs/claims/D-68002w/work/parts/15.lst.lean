/-! ===== lists: what stands between commas ===== -/
def spl : List Int → List (List Int)
  | [] => [[]]
  | c :: xs => if c = 44 then [] :: spl xs else match spl xs with
    | [] => [[c]]
    | y :: ys => (c :: y) :: ys
theorem spl_ne (xs : List Int) : spl xs ≠ [] := by
  cases xs with
  | nil => unfold spl; simp
  | cons c xs =>
    unfold spl
    split
    · simp
    · split <;> simp
theorem spl_p : ∀ (p : List Int), (∀ c ∈ p, c ≠ 44) → spl p = [p]
  | [], _ => rfl
  | c :: p, h => by
    rw [spl, if_neg (h c (by simp)), spl_p p (fun d hd => h d (List.mem_cons_of_mem _ hd))]
theorem spl_c : ∀ (p q : List Int), (∀ c ∈ p, c ≠ 44) → spl (p ++ 44 :: q) = p :: spl q
  | [], q, _ => by show spl (44 :: q) = _; rw [spl, if_pos rfl]
  | c :: p, q, h => by
    show spl (c :: (p ++ 44 :: q)) = _
    rw [spl, if_neg (h c (by simp)), spl_c p q (fun d hd => h d (List.mem_cons_of_mem _ hd))]
def lst (v : List Int) : List (List Int) := ((spl v).map trim).filter (fun x => decide (x ≠ []))
def on1 (x : List Int) : List (List Int) := if x = [] then [] else [x]
theorem lst_nil : lst [] = [] := by decide
theorem lst_p {p : List Int} (h : ∀ c ∈ p, c ≠ 44) : lst p = on1 (trim p) := by
  unfold lst on1
  rw [spl_p p h]
  by_cases e : trim p = []
  · simp [e]
  · simp [e]
theorem lst_c {p q : List Int} (h : ∀ c ∈ p, c ≠ 44) : lst (p ++ 44 :: q) = on1 (trim p) ++ lst q := by
  unfold lst on1
  rw [spl_c p q h]
  by_cases e : trim p = []
  · simp [e]
  · simp [e]
theorem drop_c {v : List Int} {a k : Nat} (hk : v[k]? = some 44) (ha : a ≤ k) : v.drop a = sl v a k ++ 44 :: v.drop (k + 1) := by
  obtain ⟨h1, h2⟩ := List.getElem?_eq_some_iff.mp hk
  unfold sl
  have e1 : v = v.take k ++ 44 :: v.drop (k + 1) := by
    rw [← h2, ← List.drop_eq_getElem_cons h1, List.take_append_drop]
  calc v.drop a = (v.take k ++ 44 :: v.drop (k + 1)).drop a := by rw [← e1]
    _ = _ := by rw [List.drop_append_of_le_length (by rw [List.length_take]; omega)]
theorem lst_step {v : List Int} {a k : Nat} (hk : v[k]? = some 44) (ha : a ≤ k) (hn : ∀ c ∈ sl v a k, c ≠ 44) : lst (v.drop a) = on1 (trim (sl v a k)) ++ lst (v.drop (k + 1)) := by
  rw [drop_c hk ha, lst_c hn]
theorem lst_end {v : List Int} {a : Nat} (hn : ∀ c ∈ sl v a v.length, c ≠ 44) : lst (v.drop a) = on1 (trim (sl v a v.length)) ++ lst (v.drop (v.length + 1)) := by
  rw [List.drop_eq_nil_of_le (Nat.le_succ _), lst_nil, List.append_nil, ← sl_to, lst_p hn]
theorem spl_mem : ∀ (v p : List Int), p ∈ spl v → ∀ c ∈ p, c ∈ v
  | [], p, h, c, hc => by
    rw [spl] at h
    rw [List.mem_singleton.mp h] at hc
    cases hc
  | d :: v, p, h, c, hc => by
    rw [spl] at h
    split at h
    · rcases List.mem_cons.mp h with q | q
      · rw [q] at hc; cases hc
      · exact List.mem_cons_of_mem _ (spl_mem v p q c hc)
    · cases hs : spl v with
      | nil => exact absurd hs (spl_ne v)
      | cons y ys =>
        rw [hs] at h
        rcases List.mem_cons.mp h with q | q
        · rw [q] at hc
          rcases List.mem_cons.mp hc with z | z
          · rw [z]; exact List.mem_cons_self
          · exact List.mem_cons_of_mem _ (spl_mem v y (by rw [hs]; exact List.mem_cons_self) c z)
        · exact List.mem_cons_of_mem _ (spl_mem v p (by rw [hs]; exact List.mem_cons_of_mem _ q) c hc)
theorem lst_chs {v : List Int} (h : chs v) : ∀ x ∈ lst v, chs x := by
  intro x hx
  obtain ⟨h1, -⟩ := List.mem_filter.mp hx
  obtain ⟨p, hp, rfl⟩ := List.mem_map.mp h1
  exact chs_trim (chs_sub h (spl_mem v p hp))
theorem spl_sum : ∀ (v : List Int), ((spl v).map List.length).sum + (spl v).length = v.length + 1
  | [] => rfl
  | c :: v => by
    have ih := spl_sum v
    rw [spl]
    split
    · simp; omega
    · cases hs : spl v with
      | nil => exact absurd hs (spl_ne v)
      | cons y ys => rw [hs] at ih; simp at ih ⊢; omega
theorem lst_sum (v : List Int) : ((lst v).map List.length).sum + (lst v).length ≤ v.length + 1 := by
  have h := spl_sum v
  have key : ∀ ys : List (List Int), ((((ys.map trim).filter (fun x => decide (x ≠ []))).map List.length).sum + ((ys.map trim).filter (fun x => decide (x ≠ []))).length) ≤ (ys.map List.length).sum + ys.length := by
    intro ys
    induction ys with
    | nil => simp
    | cons y ys ih =>
      have ht := trim_len y
      simp only [List.map_cons, List.filter_cons]
      split
      · simp only [List.map_cons, List.sum_cons, List.length_cons]; omega
      · simp only [List.sum_cons, List.length_cons]; omega
  unfold lst
  have := key (spl v)
  omega
theorem lst_len (v : List Int) : 2 * (lst v).length ≤ v.length + 1 := by
  have h := lst_sum v
  have key : ∀ ys : List (List Int), (∀ y ∈ ys, y ≠ []) → ys.length ≤ (ys.map List.length).sum := by
    intro ys
    induction ys with
    | nil => simp
    | cons y ys ih =>
      intro hy
      have h1 := ih (fun z hz => hy z (List.mem_cons_of_mem _ hz))
      have h2 : y.length ≠ 0 := fun q => hy y List.mem_cons_self (List.eq_nil_of_length_eq_zero q)
      simp only [List.map_cons, List.sum_cons, List.length_cons]; omega
  have h2 := key (lst v) (fun y hy => by have := (List.mem_filter.mp hy).2; simpa using this)
  omega
theorem lst_mem_len {v x : List Int} (h : x ∈ lst v) : x.length ≤ v.length := by
  have h1 := lst_sum v
  have key : ∀ ys : List (List Int), x ∈ ys → x.length + 1 ≤ (ys.map List.length).sum + ys.length := by
    intro ys
    induction ys with
    | nil => intro q; cases q
    | cons y ys ih =>
      intro q
      rcases List.mem_cons.mp q with z | z
      · rw [← z]; simp only [List.map_cons, List.sum_cons, List.length_cons]; omega
      · have := ih z; simp only [List.map_cons, List.sum_cons, List.length_cons]; omega
  have := key _ h
  omega
theorem lst_ne {v x : List Int} (h : x ∈ lst v) : x ≠ [] := by
  have := (List.mem_filter.mp h).2
  simpa using this
/-! rows at addresses -/
def Ors (G : zE) (P : Nat → Prop) (H : Heap) (rs : List (Option Nat)) (vs : List (Option (List Int))) : Prop := rs.length = vs.length ∧ ∀ (i : Nat) (r : Option Nat) (v : Option (List Int)), rs[i]? = some r → vs[i]? = some v → Orw G P H r v
theorem Ors.kp {G : zE} {P P' : Nat → Prop} {H H' : Heap} {rs : List (Option Nat)} {vs : List (Option (List Int))} (h : Ors G P H rs vs) (hk : Kp P H P' H') : Ors G P' H' rs vs := ⟨h.1, fun i r v hr hv => (h.2 i r v hr hv).kp hk⟩
theorem Ors.nil {G : zE} {P : Nat → Prop} {H : Heap} : Ors G P H [] [] := ⟨rfl, fun i r v hr _ => by simp at hr⟩
theorem Ors.snoc {G : zE} {P : Nat → Prop} {H : Heap} {rs : List (Option Nat)} {vs : List (Option (List Int))} {r : Option Nat} {v : Option (List Int)} (h : Ors G P H rs vs) (h2 : Orw G P H r v) : Ors G P H (rs ++ [r]) (vs ++ [v]) := by
  refine ⟨by simp [h.1], fun i r' v' hr hv => ?_⟩
  by_cases hi : i < rs.length
  · rw [List.getElem?_append_left hi] at hr
    rw [List.getElem?_append_left (by rw [← h.1]; exact hi)] at hv
    exact h.2 i r' v' hr hv
  · rw [List.getElem?_append_right (by omega)] at hr
    rw [List.getElem?_append_right (by rw [← h.1]; omega), ← h.1] at hv
    have hz := (List.getElem?_eq_some_iff.mp hr).1
    simp at hz
    have e : i - rs.length = 0 := by omega
    rw [e] at hr hv
    cases hr; cases hv
    exact h2
theorem Ors.rq {G : zE} {P : Nat → Prop} {H : Heap} {a : Nat} {rs : List (Option Nat)} {vs : List (Option (List Int))} (h : Ors G P H rs vs) (hp : P a) (ha : Aq G H a 105 rs) : Rq G P H a vs := ⟨hp, rs, ha, h.1, h.2⟩
theorem Rq.ors {G : zE} {P : Nat → Prop} {H : Heap} {a : Nat} {vs : List (Option (List Int))} (h : Rq G P H a vs) : ∃ rs, P a ∧ Aq G H a 105 rs ∧ Ors G P H rs vs := by
  obtain ⟨h1, rs, h2, h3, h4⟩ := h
  exact ⟨rs, h1, h2, h3, h4⟩
theorem fillq_set {xs : List (Option Nat)} {n : Nat} {c : Option Nat} {i : Nat} (h : i = xs.length) : (xs ++ List.replicate (n + 1) none).set i c = (xs ++ [c]) ++ List.replicate n none := by
  subst h
  rw [List.set_append_right _ _ (Nat.le_refl _), Nat.sub_self, List.replicate_succ, List.set_cons_zero, List.append_assoc]; rfl
/-- after a store at a: what lies in P, apart from a, stays -/
theorem Kp.put {P : Nat → Prop} {H H' : Heap} {a : Nat} (hq : ∀ q : Nat, q ≠ a → H'[q]? = H[q]?) (hne : ∀ q, P q → q ≠ a) : Kp P H P H' := fun q _ hp => ⟨hp, hq q (hne q hp)⟩
