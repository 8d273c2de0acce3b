/-! ===== texts ===== -/
abbrev Txt : Type := List (List Int × List Int)
abbrev Lns : Type := List (Nat × Nat × Nat)
def nmOf (cs : List Int) (q : Nat × Nat × Nat) : List Int := (sl cs q.1 q.2.1).map smI
def vlOf (cs : List Int) (q : Nat × Nat × Nat) : List Int := trim (sl cs (q.2.1 + 1) q.2.2)
def tln (cs : List Int) (ls : Lns) : Txt := ls.map (fun q => (nmOf cs q, vlOf cs q))
def lnOk (cs : List Int) (q : Nat × Nat × Nat) : Prop := q.1 < q.2.1 ∧ q.2.1 < q.2.2 ∧ q.2.2 ≤ cs.length
def Tx (G : zE) (P : Nat → Prop) (H : Heap) (a : Nat) (cs : List Int) (ls : Lns) : Prop := P a ∧ ∃ (c b k e : Nat) (bs ks es : List Int), Ob G H a 6 [.ref c, .int (iI (ls.length : Int)), .ref b, .ref k, .ref e] ∧ (P c ∧ P b ∧ P k ∧ P e) ∧ Ai G H c 101 cs ∧ Ai G H b 101 bs ∧ Ai G H k 101 ks ∧ Ai G H e 101 es ∧ (bs.length = 100 ∧ ks.length = 100 ∧ es.length = 100 ∧ ls.length ≤ 100) ∧ chs cs ∧ cs.length ≤ 300 ∧ ∀ (i : Nat) (q : Nat × Nat × Nat), ls[i]? = some q → bs[i]? = some (q.1 : Int) ∧ ks[i]? = some (q.2.1 : Int) ∧ es[i]? = some (q.2.2 : Int) ∧ lnOk cs q
theorem Tx.kp {G : zE} {P P' : Nat → Prop} {H H' : Heap} {a : Nat} {cs : List Int} {ls : Lns} (h : Tx G P H a cs ls) (hk : Kp P H P' H') : Tx G P' H' a cs ls := by
  obtain ⟨hp, c, b, k, e, bs, ks, es, h1, ⟨p1, p2, p3, p4⟩, h2, h3, h4, h5, h6⟩ := h
  exact ⟨(hk a h1.lt hp).1, c, b, k, e, bs, ks, es, h1.kp hp hk, ⟨(hk c h2.lt p1).1, (hk b h3.lt p2).1, (hk k h4.lt p3).1, (hk e h5.lt p4).1⟩, h2.kp p1 hk, h3.kp p2 hk, h4.kp p3 hk, h5.kp p4 hk, h6⟩
theorem Tx.ext {G : zE} {P : Nat → Prop} {H H' : Heap} {a : Nat} {cs : List Int} {ls : Lns} (h : Tx G P H a cs ls) (e : Ext H H') : Tx G P H' a cs ls := h.kp (Kp.ext e)
theorem tln_len (cs : List Int) (ls : Lns) : (tln cs ls).length = ls.length := by unfold tln; rw [List.length_map]
theorem tln_drop {cs : List Int} {ls : Lns} {j : Nat} {q : Nat × Nat × Nat} (h : ls[j]? = some q) : (tln cs ls).drop j = (nmOf cs q, vlOf cs q) :: (tln cs ls).drop (j + 1) := by
  have h4 : (tln cs ls)[j]? = some (nmOf cs q, vlOf cs q) := by unfold tln; rw [List.getElem?_map, h]; rfl
  obtain ⟨h1, h2⟩ := List.getElem?_eq_some_iff.mp h4
  rw [List.drop_eq_getElem_cons h1, h2]
theorem vlOf_len {cs : List Int} {q : Nat × Nat × Nat} : (vlOf cs q).length ≤ cs.length := by
  unfold vlOf
  refine Nat.le_trans (trim_len _) ?_
  unfold sl; rw [List.length_drop, List.length_take]; omega
def jn (acc : Option (List Int)) (x : List Int) : List Int := match acc with
  | none => x
  | some v => v ++ 44 :: x
def vV (nm : List Int) : Option (List Int) → Txt → Option (List Int)
  | acc, [] => acc
  | acc, l :: T => if l.1 = nm then vV nm (some (jn acc l.2)) T else vV nm acc T
def c1 (acc : Option (List Int)) : Nat := match acc with
  | none => 1
  | some _ => 2
def s1 (acc : Option (List Int)) (x : List Int) : Nat := match acc with
  | none => x.length
  | some v => x.length + (v.length + 1 + x.length)
def vC (nm : List Int) : Option (List Int) → Txt → Nat
  | _, [] => 0
  | acc, l :: T => if l.1 = nm then c1 acc + vC nm (some (jn acc l.2)) T else vC nm acc T
def vS (nm : List Int) : Option (List Int) → Txt → Nat
  | _, [] => 0
  | acc, l :: T => if l.1 = nm then s1 acc l.2 + vS nm (some (jn acc l.2)) T else vS nm acc T
/-- the value of a name in a text -/
abbrev vof (T : Txt) (nm : List Int) : Option (List Int) := vV nm none T
def ochs (v : Option (List Int)) : Prop := ∀ x, v = some x → chs x
def olen (v : Option (List Int)) (n : Nat) : Prop := ∀ x, v = some x → x.length ≤ n
theorem vV_ok (nm : List Int) {N : Nat} : ∀ (T : Txt) (acc : Option (List Int)), (∀ l ∈ T, chs l.2 ∧ l.2.length ≤ N) → ochs acc → ∀ w, olen acc w → ochs (vV nm acc T) ∧ olen (vV nm acc T) (w + T.length * (N + 1))
  | [], acc, _, h, w, hw => ⟨h, fun x hx => by have := hw x hx; simp; exact this⟩
  | l :: T, acc, hT, h, w, hw => by
    have h1 := hT l List.mem_cons_self
    have h2 : ∀ l ∈ T, chs l.2 ∧ l.2.length ≤ N := fun x hx => hT x (List.mem_cons_of_mem _ hx)
    rw [vV]
    split
    · have h3 : ochs (some (jn acc l.2)) := by
        intro x hx
        cases hx
        cases acc with
        | none => exact h1.1
        | some v => exact chs_app (h v rfl) (fun c hc => by rcases List.mem_cons.mp hc with q | q; rw [q]; exact ⟨by decide, by decide⟩; exact h1.1 c q)
      have h4 : olen (some (jn acc l.2)) (w + (N + 1)) := by
        intro x hx
        cases hx
        cases acc with
        | none => show l.2.length ≤ _; omega
        | some v => have := hw v rfl; show (v ++ 44 :: l.2).length ≤ _; rw [List.length_append, List.length_cons]; omega
      obtain ⟨g1, g2⟩ := vV_ok nm T _ h2 h3 _ h4
      refine ⟨g1, fun x hx => ?_⟩
      have := g2 x hx
      rw [List.length_cons, Nat.add_mul]; omega
    · obtain ⟨g1, g2⟩ := vV_ok nm T _ h2 h _ hw
      refine ⟨g1, fun x hx => ?_⟩
      have := g2 x hx
      rw [List.length_cons, Nat.add_mul]; omega
theorem tln_ok {cs : List Int} {ls : Lns} (hc : chs cs) (hn : cs.length ≤ 300) : ∀ l ∈ tln cs ls, chs l.2 ∧ l.2.length ≤ 300 := by
  intro l hl
  obtain ⟨q, -, rfl⟩ := List.mem_map.mp hl
  exact ⟨chs_trim (chs_sl hc _ _), Nat.le_trans vlOf_len hn⟩
theorem vof_ok {cs : List Int} {ls : Lns} {nm : List Int} (hc : chs cs) (hn : cs.length ≤ 300) (hl : ls.length ≤ 100) : ochs (vof (tln cs ls) nm) ∧ olen (vof (tln cs ls) nm) 30100 := by
  obtain ⟨h1, h2⟩ := vV_ok nm (N := 300) (tln cs ls) none (tln_ok hc hn) (fun x h => by cases h) 0 (fun x h => by cases h)
  refine ⟨h1, fun x hx => ?_⟩
  have h3 := h2 x hx
  rw [tln_len] at h3
  omega
/-- alike, as VARY goes -/
def alk (a b : Option (List Int)) : Bool := match a, b with
  | none, none => true
  | some x, some y => decide (lst x = lst y)
  | _, _ => false
def alC (a b : Option (List Int)) : Nat := match a, b with
  | some x, some y => x.length + y.length + 6
  | _, _ => 0
def alS (a b : Option (List Int)) : Nat := match a, b with
  | some x, some y => 2 * x.length + 2 * y.length + 4
  | _, _ => 0
theorem drop_eqQ {A : Type} {xs ys : List A} {j : Nat} {c e : A} (h1 : xs[j]? = some c) (h2 : ys[j]? = some e) : xs.drop j = ys.drop j ↔ c = e ∧ xs.drop (j + 1) = ys.drop (j + 1) := by
  obtain ⟨a1, a2⟩ := List.getElem?_eq_some_iff.mp h1
  obtain ⟨b1, b2⟩ := List.getElem?_eq_some_iff.mp h2
  rw [List.drop_eq_getElem_cons a1, List.drop_eq_getElem_cons b1, List.cons.injEq, a2, b2]
theorem zsub {xs : List Int} {i : Nat} {x y : Int} (h : xs[i]? = some x) (g : xs[i]? = some y) : x = y := Option.some.inj (h.symm.trans g)
theorem nmOf_get {cs : List Int} {b k e i : Nat} {x : Int} (h : cs[b + i]? = some x) (hi : b + i < k) : (nmOf cs (b, k, e))[i]? = some (smI x) := by
  unfold nmOf
  rw [List.getElem?_map, sl_get hi, h]; rfl
theorem nmOf_len {cs : List Int} {b k e : Nat} (h : k ≤ cs.length) : (nmOf cs (b, k, e)).length = k - b := by
  unfold nmOf
  rw [List.length_map, sl_len h]
theorem take_eq {xs ys : List Int} {i : Nat} {c e : Int} (h1 : xs[i]? = some c) (h2 : ys[i]? = some e) : xs.take (i + 1) = ys.take (i + 1) ↔ xs.take i = ys.take i ∧ c = e := by
  obtain ⟨a1, a2⟩ := List.getElem?_eq_some_iff.mp h1
  obtain ⟨b1, b2⟩ := List.getElem?_eq_some_iff.mp h2
  rw [List.take_succ_eq_append_getElem a1, List.take_succ_eq_append_getElem b1, a2, b2]
  constructor
  · intro h
    have h3 := List.append_inj h (by rw [List.length_take, List.length_take]; omega)
    exact ⟨h3.1, by simpa using h3.2⟩
  · rintro ⟨h3, rfl⟩
    rw [h3]
theorem b2i_dec {p q : Prop} [Decidable p] [Decidable q] (h : p ↔ q) : b2i (decide p) = b2i (decide q) := by
  by_cases hp : p
  · rw [decide_eq_true hp, decide_eq_true (h.mp hp)]
  · rw [decide_eq_false hp, decide_eq_false (fun hq => hp (h.mpr hq))]
theorem b2i_T {p : Prop} [Decidable p] (h : ¬ b2i (decide p) = 0) : p := by
  by_cases hp : p
  · exact hp
  · exact absurd (by rw [decide_eq_false hp]; rfl) h
theorem b2i_F {p : Prop} [Decidable p] (h : b2i (decide p) = 0) : ¬ p := by
  intro hp
  rw [decide_eq_true hp] at h
  exact absurd h (by decide)
theorem b2i_p {p : Prop} [Decidable p] (h : p) : (1 : Int) = b2i (decide p) := by rw [decide_eq_true h]; rfl
theorem b2i_q {p : Prop} [Decidable p] (h : ¬ p) : (0 : Int) = b2i (decide p) := by rw [decide_eq_false h]; rfl
