/-! ===== string literals ===== -/
theorem lit_of {G : zE} (hz : zOK G) {own tx : String} {k : Nat} (cs : List Int) (h1 : Cond.stringRef own k tx ∈ lw_tbl) (h2 : Cond.exactly (.string own k) "java/lang/String" ∈ leafs narrow_1) (h3 : Cond.eq (.field (.string own k) "java/lang/String" "coder" "B") (.int 0) ∈ leafs narrow_1) (h4 : Cond.arrayOf (.field (.string own k) "java/lang/String" "value" "[B") .byte ∈ leafs narrow_1) (h5 : Cond.eq (.length (.field (.string own k) "java/lang/String" "value" "[B")) (.int (Int32.ofNat cs.length)) ∈ leafs narrow_1) (h6 : ∀ j : Nat, j < cs.length → Cond.eq (.elem (.field (.string own k) "java/lang/String" "value" "[B") (.int (Int32.ofNat j))) (.int (iI (cs.getD j 0))) ∈ leafs narrow_1) (hn : cs.length < 2 ^ 31) : ∃ a b : Nat, vk_R own k tx a G.2 ∧ Ss G G.2.heap a b ∧ Sb G G.2.heap b cs := by
  obtain ⟨a9, g1, g2⟩ := leaf_nar hz
  have em : ∀ j : Nat, (cs.map iI).getD j 0 = iI (cs.getD j 0) := fun j => by
    rw [List.getD_eq_getElem?_getD, List.getD_eq_getElem?_getD, List.getElem?_map]
    cases cs[j]? <;> rfl
  have i0 : ∀ i : Nat, i < 1 → i = 0 := fun i hi => by omega
  obtain ⟨adK, adV, e1, e2⟩ := vk_Sof (args := a9) (s := G.2) (N := 1) (tm := fun _ => .string own k) (len := [cs.length]) (byt := [cs.map iI]) (A := noA) (fun i hi => by rw [i0 i hi]; exact hn) (fun _ _ => g2 _ h2) (fun _ _ => g2 _ h3) (fun _ _ => g2 _ h4) (fun i hi => by rw [i0 i hi]; exact g2 _ h5) (fun i hi j hj => by rw [i0 i hi] at hj ⊢; have h9 := g2 _ (h6 j hj); rw [← em] at h9; exact h9) (fun i j hi hj hij => absurd ((i0 i hi).trans (i0 j hj).symm) hij) (fun _ _ => id)
  obtain ⟨f1, f2, f3, f4⟩ := e1.1 0 (by decide)
  refine ⟨adK 0, adV 0, vk_R.of (g1 _ h1) (e2 0 (by decide)), ⟨f1, f2, f3⟩, ?_⟩
  have f5 : va_T .byte (adV 0) cs.length (fun j => .int ((cs.map iI).getD j 0)) noA G.2 G.2.heap := f4
  have f6 : (fun j => Value.int ((cs.map iI).getD j 0)) = (fun j => Value.int (iI (cs.getD j 0))) := by funext j; rw [em]
  rw [f6] at f5
  exact f5
theorem Ss.old {G : zE} {H : Heap} {a b : Nat} (h : Ss G G.2.heap a b) (hB : Bh G H) : Ss G H a b := h.kept (hB.2 a h.lt)
theorem Sb.old {G : zE} {H : Heap} {a : Nat} {xs : List Int} (h : Sb G G.2.heap a xs) (hB : Bh G H) : Sb G H a xs := h.kept (hB.2 a h.lt)
/-- cells that were there before -/
abbrev Old (G : zE) : Nat → Prop := fun q => q < G.2.heap.size
section ZLD
variable {p : Program} {l : Launch} {e : Env} {F Lw mc ms : Nat} {s : State} {m : MethodId} {args : Array Value} {below : List Frame} {meth : Method} {c : Code} {H : Heap} {locs : List Loc} {k n : Nat} {Q : State → Prop}
variable {cc : ByteArray} {pc : Nat} {ls : Array Slot} {rest : List Value} {own : String} {nL : Nat} {ret : Option FieldType} {G : zE} {H0 : Heap} {A : Nat → Prop}
theorem z_ldcS (cx : zC p s m args meth c cc own nL ret G H0) {tx : String} {index a : Nat} (hZ : vk_R own index tx a G.2) (d : decode cc pc = .ok (.ldc index, 2)) (kk : W p l e ⟨F, mc, ms, Lw⟩ s m args below meth c H locs k n Q (F0 m (pc + 2) ls (.ref a :: rest))) : W p l e ⟨F, mc, ms, Lw⟩ s m args below meth c H locs k n Q (F0 m pc ls rest) :=
  va_ldcS cx.1 cx.2.1 cx.wn (vk_R.warm cx.kk.2 hZ) d kk
end ZLD
