/-! ===== the component's words: pure ===== -/
/-- what may be of a method's strings: its caller's, new, old -/
abbrev PN (G : zE) (P : Nat → Prop) (H : Heap) : Nat → Prop := fun q => P q ∨ H.size ≤ q ∨ q < G.2.heap.size
theorem map_len {xs : List Int} {f : Int → Int} : (xs.map f).length = xs.length := List.length_map _
theorem chs_map' {xs : List Int} (h : chs xs) : chs (xs.map smI) := fun c hc => by
  obtain ⟨d, hd, rfl⟩ := List.mem_map.mp hc
  exact smI_rg (h d hd)
theorem gcx {xs : List Int} {j : Nat} (h : j < xs.length) : ∃ c, xs[j]? = some c := ⟨_, List.getElem?_eq_getElem h⟩
theorem isNm_iff (xs : List Int) : isNm xs = decide (xs.all isNS = true ∧ 0 < xs.length ∧ xs.length ≤ 16) := by
  unfold isNm
  cases xs.all isNS <;> simp
theorem isNS_iff {c : Int} : isNS c = true ↔ ((65 ≤ c ∧ c ≤ 90) ∨ (97 ≤ c ∧ c ≤ 122) ∨ (48 ≤ c ∧ c ≤ 57) ∨ c = 45) := by unfold isNS; simp
theorem isDg_iff {c : Int} : isDg c = true ↔ (48 ≤ c ∧ c ≤ 57) := by unfold isDg; simp
/-! ===== a list of strings in the making ===== -/
abbrev PL (G : zE) (P : Nat → Prop) (L ed : Nat) : Nat → Prop := fun q => P q ∧ q ≠ L ∧ (G.2.heap.size ≤ ed → q ≠ ed)
def LB (G : zE) (P : Nat → Prop) (H : Heap) (L ed : Nat) (rs : List Nat) (xs : List (List Int)) : Prop := rs.length = xs.length ∧ ∀ (i r : Nat) (x : List Int), rs[i]? = some r → xs[i]? = some x → St G (PL G P L ed) H r x
theorem LB.ext {G : zE} {P : Nat → Prop} {H H1 : Heap} {L ed : Nat} {rs : List Nat} {xs : List (List Int)} (h : LB G P H L ed rs xs) (e : Ext H H1) : LB G P H1 L ed rs xs := ⟨h.1, fun i r x h1 h2 => (h.2 i r x h1 h2).ext e⟩
theorem LB.el {G : zE} {P : Nat → Prop} {H : Heap} {L ed : Nat} {rs : List Nat} {xs : List (List Int)} (h : LB G P H L ed rs xs) : ∀ y, y ∈ rs → El G H y := fun y hy => by
  obtain ⟨i, hi, rfl⟩ := List.mem_iff_getElem.mp hy
  exact El.st (h.2 i _ _ (List.getElem?_eq_getElem hi) (List.getElem?_eq_getElem (by rw [← h.1]; exact hi)))
theorem LB.nil {G : zE} {P : Nat → Prop} {H : Heap} {L ed : Nat} : LB G P H L ed [] [] := ⟨rfl, fun i r x h => by simp at h⟩
theorem EDok.edlt {G : zE} {H : Heap} {ed cap : Nat} {rs : List Nat} (hz : zOK G) (h : EDok G H ed rs cap) (hb : G.2.heap.size ≤ ed) : ed < H.size := by
  rcases h with ⟨-, h, -⟩ | ⟨-, -, -, h4⟩
  · have := e0_lt hz; omega
  · exact h4.lt
theorem LB.add {G : zE} {P : Nat → Prop} {H H1 : Heap} {L ed d x : Nat} {rs : List Nat} {xs : List (List Int)} {y : List Int} {R : Prop} (h : LB G P H L ed rs xs) (hL : L < H.size) (hx : St G (PL G P L ed) H x y) (hk : ∀ q : Nat, q < H.size → ¬ (H.size ≤ q ∨ q = L ∨ (G.2.heap.size ≤ q ∧ q = ed)) → H1[q]? = H[q]?) (hd : (d = ed ∧ R) ∨ H.size ≤ d) : LB G P H1 L d (rs ++ [x]) (xs ++ [y]) := by
  have kp : Kp (PL G P L ed) H (PL G P L d) H1 := fun q hq hp => ⟨⟨hp.1, hp.2.1, fun hb => by rcases hd with e | e; rw [e.1]; exact hp.2.2 (by rw [← e.1]; exact hb); omega⟩, hk q hq (by rintro (z | z | z); exact absurd hq (Nat.not_lt.mpr z); exact hp.2.1 z; exact hp.2.2 (by rw [← z.2]; exact z.1) z.2)⟩
  refine ⟨by rw [List.length_append, List.length_append, h.1]; rfl, fun i r z hr hz => ?_⟩
  by_cases hi : i < rs.length
  · rw [List.getElem?_append_left hi] at hr
    rw [List.getElem?_append_left (by rw [← h.1]; exact hi)] at hz
    exact (h.2 i r z hr hz).kp kp
  · rw [List.getElem?_append_right (by omega)] at hr
    rw [List.getElem?_append_right (by rw [← h.1]; omega)] at hz
    have h1 : i - rs.length = 0 := by have := (List.getElem?_eq_some_iff.mp hr).1; simp at this; omega
    rw [h1] at hr
    rw [← h.1, h1] at hz
    cases hr; cases hz
    exact hx.kp kp
theorem LB.fin {G : zE} {P : Nat → Prop} {H : Heap} {L ed cap : Nat} {rs : List Nat} {mz : Int} {xs : List (List Int)} (h : LB G P H L ed rs xs) (hL : P L) (hed : ed = e0 G ∨ P ed) (h1 : Ob G H L 8 [.int (iI mz), .ref ed, .int (iI (rs.length : Int))]) (h2 : EDok G H ed rs cap) (hc : cap ≤ 100000) : LSt G P H L xs := ⟨ed, rs, cap, mz, hL, h1, h2, hed, ⟨h.1, hc⟩, fun i r x hr hx => (h.2 i r x hr hx).kp (Kp.weak (fun q _ hq => hq.1))⟩
