/-! ===== the premises' leaves; what was there before the program began; statics ===== -/
def leafs : Cond → List Cond
  | .and a b => leafs a ++ leafs b
  | c => [c]
theorem leafs_ok {args : Array Value} {s : State} : ∀ (c : Cond), c.before args s = true → ∀ w ∈ leafs c, w.before args s = true := by
  intro c
  induction c with
  | and a b ha hb =>
    intro h w hw
    have h2 : a.before args s = true ∧ b.before args s = true := by rw [Cond.before_and, Bool.and_eq_true] at h; exact h
    rw [leafs] at hw
    rcases List.mem_append.mp hw with q | q
    · exact ha h2.1 w q
    · exact hb h2.2 w q
  | _ => intro h w hw; exact (List.mem_singleton.mp hw) ▸ h
theorem leaf_nar {G : zE} (h : zOK G) : ∃ a9 : Array Value, (∀ w ∈ lw_tbl, w.before a9 G.2 = true) ∧ ∀ w ∈ leafs narrow_1, w.before a9 G.2 = true := by
  obtain ⟨⟨a9, h1, h2⟩, -⟩ := h
  refine ⟨a9, h1, leafs_ok _ ?_⟩
  rw [Cond.before_and, Bool.and_eq_true] at h2
  exact h2.2
theorem nar_cs : (Cond.eq (.static "java/lang/String" "COMPACT_STRINGS" "Z") (.int 1)) ∈ leafs narrow_1 := by decide +kernel
theorem nar_si : (Cond.isRef (.static "jdk/internal/util/Preconditions" "SIOOBE_FORMATTER" "Ljava/util/function/BiFunction;")) ∈ leafs narrow_1 := by decide +kernel
theorem nar_em : (Cond.isRef (.static "java/util/ArrayList" "DEFAULTCAPACITY_EMPTY_ELEMENTDATA" "[Ljava/lang/Object;")) ∈ leafs narrow_1 := by decide +kernel
/-- what was there before the program began is as it was -/
def Bh (G : zE) (H : Heap) : Prop := G.2.heap.size ≤ H.size ∧ ∀ q : Nat, q < G.2.heap.size → H[q]? = G.2.heap[q]?
theorem Bh.ext {G : zE} {H H1 : Heap} (h : Bh G H) (e : Ext H H1) : Bh G H1 := ⟨Nat.le_trans h.1 e.1, fun q hq => (e.2 q (Nat.lt_of_lt_of_le hq h.1)).trans (h.2 q hq)⟩
theorem Bh.of {G : zE} {H H1 : Heap} {A : Nat → Prop} (h : Bh G H) (h1 : H.size ≤ H1.size) (hk : ∀ q : Nat, q < H.size → ¬ A q → H1[q]? = H[q]?) (hA : ∀ q : Nat, A q → G.2.heap.size ≤ q) : Bh G H1 := ⟨Nat.le_trans h.1 h1, fun q hq => (hk q (Nat.lt_of_lt_of_le hq h.1) (fun z => Nat.not_le.mpr hq (hA q z))).trans (h.2 q hq)⟩
theorem Bh.ofS {G : zE} {H0 H : Heap} {A : Nat → Prop} {locs : List Loc} (h : Bh G H0) (hS : va_S A H0 H locs) (hA : ∀ q : Nat, A q → G.2.heap.size ≤ q) : Bh G H := h.of hS.1 hS.2.1 hA
section ZGS
variable {p : Program} {l : Launch} {e : Env} {F Lw mc ms : Nat} {s : State} {m : MethodId} {args : Array Value} {below : List Frame} {meth : Method} {c : Code} {H : Heap} {locs : List Loc} {k n : Nat} {Q : State → Prop}
variable {cc : ByteArray} {pc : Nat} {ls : Array Slot} {rest : List Value} {own : String} {nL : Nat} {ret : Option FieldType} {G : zE} {H0 : Heap} {A : Nat → Prop}
/-- a static that was there before -/
theorem z_gets (cx : zC p s m args meth c cc own nL ret G H0) {C n0 d0 : String} {v : Value} {index : Nat} (hZ : va_Z C n0 d0 v noA G.2 G.2.heap) (hB : Bh G H) (hlink : Cond.fieldLink own index C n0 d0 ∈ lw_all) (d : decode cc pc = .ok (.getstatic index, 3))
    (kk : W p l e ⟨F, mc, ms, Lw⟩ s m args below meth c H locs k n Q (F0 m (pc + 3) ls (v :: rest))) : W p l e ⟨F, mc, ms, Lw⟩ s m args below meth c H locs k n Q (F0 m pc ls rest) := by
  obtain ⟨cf, kf, fi, f, a, cell, h1, h2, h3, h4, h5, h6, h7, h8⟩ := va_Z.moved cx.kk.2.alike hZ
  exact W.gets cx.1 cx.2.1 cx.wn (cx.ts _ hlink) h1 h2 h3 h4 (by rw [hB.2 a (Array.getElem?_eq_some_iff.mp h5).1]; exact h5) (fun e => by rw [e] at h6; cases h6) h7 rfl d kk
end ZGS
theorem st_cs {G : zE} {U : State} (hK : KK G U) : va_Z "java/lang/String" "COMPACT_STRINGS" "Z" (.int (iI 1)) noA G.2 G.2.heap := by
  obtain ⟨a9, h1, h2⟩ := leaf_nar hK.1
  have h3 := h2 _ nar_cs
  refine va_Zof (args := a9) (h1 _ q135) (h1 _ (lw_all_tbl (by decide +kernel : Cond.initialized "java/lang/String" ∈ lw_all))) ?_ (fun _ _ => id)
  exact Cond.eq_int (n := 1) h3 rfl
theorem st_si {G : zE} {U : State} (hK : KK G U) : ∃ r : Option Nat, va_Z "jdk/internal/util/Preconditions" "SIOOBE_FORMATTER" "Ljava/util/function/BiFunction;" (va_rf r) noA G.2 G.2.heap := by
  obtain ⟨a9, h1, h2⟩ := leaf_nar hK.1
  have h3 := va_Zqof (A := noA) (h1 _ q180) (h1 _ (lw_all_tbl (by decide +kernel : Cond.initialized "jdk/internal/util/Preconditions" ∈ lw_all))) (h2 _ nar_si) (fun _ _ => id)
  rcases h3 with h | ⟨t, h⟩
  · exact ⟨none, h⟩
  · exact ⟨some t, h⟩
