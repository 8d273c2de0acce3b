/-! ===== new objects: their fields at the start; constructors of a nest mate ===== -/
theorem zdefX1 : ∀ j, j < 8 → defaultValue (tyX1 j) = vp_V [.null, .null, .null, .null, .int (iI 0), .int (iI 0), .int (iI 0), .int (iI 0)] j := by
  intro j hj
  rcases (show j = 0 ∨ j = 1 ∨ j = 2 ∨ j = 3 ∨ j = 4 ∨ j = 5 ∨ j = 6 ∨ j = 7 by omega) with rfl | rfl | rfl | rfl | rfl | rfl | rfl | rfl <;> rfl
theorem zdefX2 : ∀ j, j < 1 → defaultValue (tyX2 j) = vp_V [.null] j := by
  intro j hj
  rcases (show j = 0 by omega) with rfl <;> rfl
theorem zdefX3 : ∀ j, j < 2 → defaultValue (tyX3 j) = vp_V [.null, .null] j := by
  intro j hj
  rcases (show j = 0 ∨ j = 1 by omega) with rfl | rfl <;> rfl
theorem zdefX6 : ∀ j, j < 3 → defaultValue (tyX6 j) = vp_V [.null, .null, .null] j := by
  intro j hj
  rcases (show j = 0 ∨ j = 1 ∨ j = 2 by omega) with rfl | rfl | rfl <;> rfl
theorem zdefX7 : ∀ j, j < 9 → defaultValue (tyX7 j) = vp_V [.int (iI 0), .null, .null, .null, .null, .int (iI 0), .int (iI 0), .int (iI 0), .int (iI 0)] j := by
  intro j hj
  rcases (show j = 0 ∨ j = 1 ∨ j = 2 ∨ j = 3 ∨ j = 4 ∨ j = 5 ∨ j = 6 ∨ j = 7 ∨ j = 8 by omega) with rfl | rfl | rfl | rfl | rfl | rfl | rfl | rfl | rfl <;> rfl
theorem zdefX4 : ∀ j, j < 9 → defaultValue (tyX4 j) = vp_V [.null, .int (iI 0), .int (iI 0), .int (iI 0), .int (iI 0), .long 0, .null, .null, .int (iI 0)] j := by
  intro j hj
  rcases (show j = 0 ∨ j = 1 ∨ j = 2 ∨ j = 3 ∨ j = 4 ∨ j = 5 ∨ j = 6 ∨ j = 7 ∨ j = 8 by omega) with rfl | rfl | rfl | rfl | rfl | rfl | rfl | rfl | rfl <;> rfl
theorem zdefX5 : ∀ j, j < 5 → defaultValue (tyX5 j) = vp_V [.null, .int (iI 0), .null, .null, .null] j := by
  intro j hj
  rcases (show j = 0 ∨ j = 1 ∨ j = 2 ∨ j = 3 ∨ j = 4 by omega) with rfl | rfl | rfl | rfl | rfl <;> rfl
theorem zdefX8 : ∀ j, j < 12 → defaultValue (tyX8 j) = vp_V [.int (iI 0), .int (iI 0), .int (iI 0), .int (iI 0), .int (iI 0), .int (iI 0), .int (iI 0), .int (iI 0), .null, .null, .null, .long 0] j := by
  intro j hj
  rcases (show j = 0 ∨ j = 1 ∨ j = 2 ∨ j = 3 ∨ j = 4 ∨ j = 5 ∨ j = 6 ∨ j = 7 ∨ j = 8 ∨ j = 9 ∨ j = 10 ∨ j = 11 by omega) with rfl | rfl | rfl | rfl | rfl | rfl | rfl | rfl | rfl | rfl | rfl | rfl <;> rfl
theorem zdefJ2 : ∀ j, j < 3 → defaultValue (tyJ2 j) = vp_V [.int (iI 0), .null, .int (iI 0)] j := by
  intro j hj
  rcases (show j = 0 ∨ j = 1 ∨ j = 2 by omega) with rfl | rfl | rfl <;> rfl
theorem zdefJ4 : ∀ j, j < 4 → defaultValue (tyJ4 j) = vp_V [.null, .int (iI 0), .int (iI 0), .int (iI 0)] j := by
  intro j hj
  rcases (show j = 0 ∨ j = 1 ∨ j = 2 ∨ j = 3 by omega) with rfl | rfl | rfl | rfl <;> rfl
theorem zdefJ5 : ∀ j, j < 2 → defaultValue (tyJ5 j) = vp_V [.null, .int (iI 0)] j := by
  intro j hj
  rcases (show j = 0 ∨ j = 1 by omega) with rfl | rfl <;> rfl
theorem zdefJ17 : ∀ j, j < 1 → defaultValue (tyJ17 j) = vp_V [.int (iI 0)] j := by
  intro j hj
  rcases (show j = 0 by omega) with rfl <;> rfl
section ZN3
variable {p : Program} {l : Launch} {e : Env} {F Lw mc ms : Nat} {s : State} {m : MethodId} {args : Array Value} {below : List Frame} {meth : Method} {c : Code} {H : Heap} {locs : List Loc} {k n : Nat} {Q : State → Prop}
variable {cc : ByteArray} {pc : Nat} {ls : Array Slot} {rest : List Value} {own : String} {nL : Nat} {ret : Option FieldType} {G : zE} {H0 : Heap} {A : Nat → Prop}
theorem zC.nestW (cx : zC p s m args meth c cc own nL ret G H0) {a h : String} {x : MethodName} {i : Nat} (hq : Cond.methodLinkNest a i x h ∈ lw_tbl) : va_Nw (.methodLinkNest a i x h) s := by
  obtain ⟨⟨⟨a9, h9, -⟩, -⟩, hW⟩ := cx.kk
  exact va_Nw.warmM (U := s) hW (va_Nw.of rfl (h9 _ hq))
/-- a nest mate's private static method -/
theorem z_callSN (cx : zC p s m args meth c cc own nL ret G H0) {host : String} {y : MethodName} {cs : ByteArray} {nL' F' L' mc' ms' index j : Nat} {ret' : Option FieldType} {as st : List Value} {post : Value → Heap → Prop} {A1 : Nat → Prop} {lv : List (Nat × Value)} (hM : zR G l y (ws_ y cs nL' ret') F' L' mc' ms' as H post A1) (hlk : Cond.methodLinkNest own index y host ∈ lw_tbl) (hG : GoodIn lw_all (ws_ y cs nL' ret')) (hst9 : Cond.static y ∈ lw_all) (hini : Cond.initialized y.cls ∈ lw_all) (hd : zdesc y j) (hn : as.length = j) (hst : st = as.reverse ++ rest) (hl : lv_has ls nL lv) (hcat : (rest.map fun v => v.category).sum ≤ 8) (hR : F' + 1 ≤ F ∧ 8 + (nL' + 11) + L' ≤ Lw) (hk : k + mc' ≤ mc ∧ n + ms' ≤ ms) (d : decode cc pc = .ok (.invokestatic index, 3)) (hS : va_S A H0 H locs) (hA : ∀ q : Nat, A1 q → A q)
    (kk : ∀ (r : Value) (H1 : Heap) (locs1 : List Loc), post r H1 → H.size ≤ H1.size → (∀ q : Nat, q < H.size → ¬ A1 q → H1[q]? = H[q]?) → va_S A H0 H1 locs1 → W p l e ⟨F, mc, ms, Lw⟩ s m args below meth c H1 locs1 (k + mc') (n + ms') Q (F0 m (pc + 3) ls (r :: rest))) : W p l e ⟨F, mc, ms, Lw⟩ s m args below meth c H locs k n Q (F0 m pc ls st) :=
  zgoR (as := as) hS hA (va_runSN ⟨cx.1, cx.2.1, cx.2.2.1, cx.wn, cx.ts⟩ hM ⟨va_cnB j cx.ts hG rfl rfl rfl (cx.nestW hlk) (cx.ts _ hini) hd hR, cx.ts _ hst9, trivial⟩ (zpreS cx) rfl hn hl.1 hst (lv_room hcat) d hk) kk
/-- a nest mate's private constructor -/
theorem z_callIN (cx : zC p s m args meth c cc own nL ret G H0) {host : String} {y : MethodName} {cs : ByteArray} {nL' F' L' mc' ms' index j b : Nat} {as st : List Value} {post : Heap → Prop} {A1 : Nat → Prop} {lv : List (Nat × Value)} (hM : zV G l y (ws_ y cs nL' none) F' L' mc' ms' (.ref b :: as) H post A1) (hG : GoodIn lw_all (ws_ y cs nL' none)) (hini : Cond.initialized y.cls ∈ lw_all) (hlk : Cond.methodLinkNest own index y host ∈ lw_tbl) (him : Cond.instanceMethod y ∈ lw_all) (hy1 : y.name = "<init>") (hd : zdesc y j) (hn : as.length = j) (hst : st = as.reverse ++ .ref b :: rest) (hl : lv_has ls nL lv) (hcat : (rest.map fun v => v.category).sum ≤ 8) (hR : F' + 1 ≤ F ∧ 8 + (nL' + 11) + L' ≤ Lw) (hk : k + mc' ≤ mc ∧ n + ms' ≤ ms) (d : decode cc pc = .ok (.invokespecial index, 3)) (hS : va_S A H0 H locs) (hA : ∀ q : Nat, A1 q → A q)
    (kk : ∀ (H1 : Heap) (locs1 : List Loc), post H1 → H.size ≤ H1.size → (∀ q : Nat, q < H.size → ¬ A1 q → H1[q]? = H[q]?) → va_S A H0 H1 locs1 → W p l e ⟨F, mc, ms, Lw⟩ s m args below meth c H1 locs1 (k + mc') (n + ms') Q (F0 m (pc + 3) ls rest)) : W p l e ⟨F, mc, ms, Lw⟩ s m args below meth c H locs k n Q (F0 m pc ls st) :=
  zgoV (as := .ref b :: as) hS hA (va_runIN (As := as) ⟨cx.1, cx.2.1, cx.2.2.1, cx.wn, cx.ts⟩ hM ⟨va_cnB j cx.ts hG rfl rfl rfl (cx.nestW hlk) (cx.ts _ hini) hd hR, hy1, cx.ts _ him⟩ (zpreS cx (as := .ref b :: as)) rfl hn hl.1 hst (lv_room hcat) d hk) kk
end ZN3
/-! ===== reading a tape into lines ===== -/
/-- the place of the next x from a on (before t; t if there is none) -/
def nxt (cs : List Int) (x : Int) (a t : Nat) : Nat := a + ((sl cs a t).takeWhile (fun c => c != x)).length
theorem nxt_le {cs : List Int} {x : Int} {a t : Nat} (h : a ≤ t) : a ≤ nxt cs x a t ∧ nxt cs x a t ≤ t := by
  unfold nxt
  have h1 := (List.takeWhile_sublist (l := sl cs a t) (fun c => c != x)).length_le
  have h2 := sl_len_le cs a t
  omega
theorem nxt_of {cs : List Int} {x : Int} {a t i : Nat} (hi : a ≤ i ∧ i ≤ t ∧ t ≤ cs.length) (hne : ∀ c ∈ sl cs a i, c ≠ x) (he : i = t ∨ cs[i]? = some x) : nxt cs x a t = i := by
  have key : ∀ (d : Nat) (b : Nat), b + d = i → a ≤ b → ((sl cs b t).takeWhile (fun c => c != x)).length = d := by
    intro d
    induction d with
    | zero =>
      intro b hb _
      rcases he with q | q
      · rw [sl_nil (by omega)]; rfl
      · rcases Nat.lt_or_ge b t with z | z
        · rw [sl_cons (show cs[b]? = some x by rw [show b = i by omega]; exact q) z]; simp
        · rw [sl_nil z]; rfl
    | succ d ih =>
      intro b hb hab
      have hbl : b < cs.length := by omega
      have h1 : cs[b]? = some cs[b] := List.getElem?_eq_getElem hbl
      have h2 : cs[b] ≠ x := by
        refine hne _ ?_
        have h3 : (sl cs a i)[b - a]? = some cs[b] := by rw [sl_get (by omega), show a + (b - a) = b by omega]; exact h1
        exact List.mem_of_getElem? h3
      rw [sl_cons h1 (by omega), List.takeWhile_cons, if_pos (by simpa using h2), List.length_cons, ih (b + 1) (by omega) (by omega)]
  unfold nxt
  rw [key (i - a) a (by omega) (Nat.le_refl a)]
  omega
def okl (cs : List Int) (a : Nat) : Bool := decide (nxt cs 10 a cs.length < cs.length ∧ nxt cs 58 a (nxt cs 10 a cs.length) < nxt cs 10 a cs.length) && isNm (sl cs a (nxt cs 58 a (nxt cs 10 a cs.length)))
/-- the place of the fault (-1: none) and the lines ahead of it -/
def prs (cs : List Int) : Nat → Nat → Lns → Int × Lns
  | 0, _, acc => (-1, acc)
  | d + 1, a, acc => if cs.length ≤ a then (-1, acc) else if okl cs a = true then prs cs d (nxt cs 10 a cs.length + 1) (acc ++ [(a, nxt cs 58 a (nxt cs 10 a cs.length), nxt cs 10 a cs.length)]) else ((a : Int), acc)
abbrev rdT (cs : List Int) : Int × Lns := prs cs (cs.length + 1) 0 []
theorem isNm_pos {xs : List Int} (h : isNm xs = true) : 0 < xs.length := by
  unfold isNm at h
  rw [Bool.and_eq_true] at h
  have := of_decide_eq_true h.2
  omega
theorem okl_ok {cs : List Int} {a : Nat} (h : okl cs a = true) (ha : a < cs.length) : lnOk cs (a, nxt cs 58 a (nxt cs 10 a cs.length), nxt cs 10 a cs.length) := by
  unfold okl at h
  rw [Bool.and_eq_true] at h
  have h1 := of_decide_eq_true h.1
  have h2 := isNm_pos h.2
  have h3 := nxt_le (cs := cs) (x := 10) (Nat.le_of_lt ha)
  have h4 := nxt_le (cs := cs) (x := 58) h3.1
  rw [sl_len (by omega)] at h2
  exact ⟨by show a < nxt cs 58 a _; omega, h1.2, by show nxt cs 10 a _ ≤ _; omega⟩
theorem con_snoc {acc : Lns} {bs : List Int} {f : Nat × Nat × Nat → Nat} (h : ∀ (i : Nat) (q : Nat × Nat × Nat), acc[i]? = some q → bs[i]? = some (f q : Int)) (hl : acc.length < bs.length) (q0 : Nat × Nat × Nat) : ∀ (i : Nat) (q : Nat × Nat × Nat), (acc ++ [q0])[i]? = some q → (bs.set acc.length (f q0 : Int))[i]? = some (f q : Int) := by
  intro i q hq
  rcases Nat.lt_or_ge i acc.length with hi | hi
  · rw [List.getElem?_append_left hi] at hq
    rw [List.getElem?_set_ne (by omega)]
    exact h i q hq
  · rw [List.getElem?_append_right hi] at hq
    have hz := (List.getElem?_eq_some_iff.mp hq).1
    simp at hz
    have e : i = acc.length := by omega
    subst e
    rw [Nat.sub_self] at hq
    cases hq
    rw [List.getElem?_set_self hl]
theorem ok_snoc {acc : Lns} {R : Nat × Nat × Nat → Prop} (h : ∀ (i : Nat) (q : Nat × Nat × Nat), acc[i]? = some q → R q) {q0 : Nat × Nat × Nat} (h0 : R q0) : ∀ (i : Nat) (q : Nat × Nat × Nat), (acc ++ [q0])[i]? = some q → R q := by
  intro i q hq
  rcases List.mem_append.mp (List.mem_of_getElem? hq) with z | z
  · obtain ⟨j, hj⟩ := List.getElem?_of_mem z
    exact h j q hj
  · rw [List.mem_singleton.mp z]; exact h0
