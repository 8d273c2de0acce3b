/-! ===== bytes copied ===== -/
def cpyL (xs ys : List Int) (sp dp m : Nat) : List Int := ys.take dp ++ ((xs.drop sp).take m ++ ys.drop (dp + m))
theorem cpyL_len {xs ys : List Int} {sp dp m : Nat} (h1 : sp + m ≤ xs.length) (h2 : dp + m ≤ ys.length) : (cpyL xs ys sp dp m).length = ys.length := by
  unfold cpyL
  rw [List.length_append, List.length_append, List.length_take, List.length_take, List.length_drop, List.length_drop]
  omega
theorem cpyL_get {xs ys : List Int} {sp dp m : Nat} (h1 : sp + m ≤ xs.length) (h2 : dp + m ≤ ys.length) (j : Nat) : (cpyL xs ys sp dp m).getD j 0 = if dp ≤ j ∧ j < dp + m then xs.getD (sp + (j - dp)) 0 else ys.getD j 0 := by
  unfold cpyL
  simp only [List.getD_eq_getElem?_getD]
  have l1 : (ys.take dp).length = dp := by rw [List.length_take]; omega
  have l2 : ((xs.drop sp).take m).length = m := by rw [List.length_take, List.length_drop]; omega
  by_cases hj : j < dp
  · rw [List.getElem?_append_left (by omega), if_neg (by omega), List.getElem?_take, if_pos hj]
  · rw [List.getElem?_append_right (by omega), l1]
    by_cases hj2 : j < dp + m
    · rw [List.getElem?_append_left (by omega), if_pos (by omega), List.getElem?_take, if_pos (by omega), List.getElem?_drop]
    · rw [List.getElem?_append_right (by omega), l2, if_neg (by omega), List.getElem?_drop]
      congr 2
      omega
section ZCP
variable {p : Program} {l : Launch} {e : Env} {F Lw mc ms : Nat} {s : State} {m : MethodId} {args : Array Value} {below : List Frame} {meth : Method} {c : Code} {H : Heap} {locs : List Loc} {k n : Nat} {Q : State → Prop}
variable {cc : ByteArray} {pc : Nat} {ls : Array Slot} {rest : List Value} {own : String} {nL : Nat} {ret : Option FieldType} {G : zE} {H0 : Heap} {A : Nat → Prop}
theorem z_copyB (cx : zC p s m args meth c cc own nL ret G H0) {b a index : Nat} {xs ys : List Int} {sp dp w : Nat} {z1 z2 z3 : Int} {lv : List (Nat × Value)} (h : Sb G H0 b xs) (hb : ¬ A b) (h2 : Ai G H a 100 ys) (hA : A a) (hS : va_S A H0 H locs) (hch : chs xs) (hz : z1 = (sp : Int) ∧ z2 = (dp : Int) ∧ z3 = (w : Int)) (hr : sp + w ≤ xs.length ∧ dp + w ≤ ys.length ∧ xs.length ≤ 100000 ∧ ys.length ≤ 1000000) (hlink : Cond.methodLink own index ⟨"java/lang/System", "arraycopy", "(Ljava/lang/Object;ILjava/lang/Object;II)V"⟩ ∈ lw_all) (hl : lv_has ls nL lv) (hcat : (rest.map fun v => v.category).sum ≤ 8) (hR : 1 ≤ F ∧ 60 ≤ Lw) (d : decode cc pc = .ok (.invokestatic index, 3))
    (kk : ∀ (H1 : Heap) (locs1 : List Loc), Ai G H1 a 100 (cpyL xs ys sp dp w) → va_S A H0 H1 locs1 → W p l e ⟨F, mc, ms, Lw⟩ s m args below meth c H1 locs1 k n Q (F0 m (pc + 3) ls rest)) : W p l e ⟨F, mc, ms, Lw⟩ s m args below meth c H locs k n Q (F0 m pc ls (.int (iI z3) :: .int (iI z2) :: .ref a :: .int (iI z1) :: .ref b :: rest)) := by
  obtain ⟨rfl, rfl, rfl⟩ := hz
  have hs : s.heap = H0 := cx.2.2.2.2.2.2.2.2
  have hS' : va_S A s.heap H locs := by rw [hs]; exact hS
  obtain ⟨cell, e1, e2, e3, e4, e5, e6, -⟩ := va_T.moved cx.kk.2.alike h
  have hX : va_T .byte b xs.length (fun j => .int ((fun j => iI (xs.getD j 0)) j)) A s s.heap := ⟨cell, by rw [hs]; exact e1, e2, e3, e4, e5, e6, hb⟩
  have c1 : (iI (sp : Int)).toNatClampNeg = sp := iI_clamp (by omega)
  have c2 : (iI (dp : Int)).toNatClampNeg = dp := iI_clamp (by omega)
  have c3 : (iI (w : Int)).toNatClampNeg = w := iI_clamp (by omega)
  have ng : ∀ i : Nat, i < 2147483648 → ¬ iI (i : Int) < 0 := fun i hi q => by
    rw [iI_0, iI_lt (by omega) (by omega)] at q
    omega
  refine vk_copyt cx.1 cx.2.1 (cx.2.2.1.trans hl.1.symm) cx.wn (cx.ts _ hlink) (cx.ts _ q244) (cx.ts _ q243) (cx.ts _ q47) cx.K (va1 h2) (va1D hA) hS' hX 0 0 rfl rfl (ng sp (by omega)) (ng dp (by omega)) (ng w (by omega)) (by rw [c1, c3]; exact hr.1) (by rw [c2, c3]; exact hr.2.1) ?_ hR.1 ?_ d ?_
  · intro i hi
    rw [c3] at hi
    rw [c1]
    have hlt : sp + i < xs.length := by omega
    have h9 := hch _ (List.getElem_mem hlt)
    have h8 : xs.getD (sp + i) 0 = xs[sp + i] := by rw [List.getD_eq_getElem?_getD, List.getElem?_eq_getElem hlt]; rfl
    show fits .byte (.int (iI (xs.getD (sp + i) 0))) = true
    rw [h8]
    have h7 := fin256 (q := fun j => j < 128 → fits .byte (.int (iI (j : Int))) = true) (by decide +kernel) (z := xs[sp + i]) (by omega) (by omega)
    rw [Int.toNat_of_nonneg h9.1] at h7
    exact h7
  · have := hR.2
    have h9 : nativeFrameWords "java/lang/System" "arraycopy" 5 ≤ 40 := by decide +kernel
    show _ + (nativeFrameWords "java/lang/System" "arraycopy" 5 + 11) ≤ Lw
    omega
  · intro H1 locs1 hP hD hS1
    rw [hs] at hS1
    refine kk H1 locs1 ?_ hS1
    have h9 := va1at hP
    unfold Ai
    rw [cpyL_len hr.1 hr.2.1]
    have h8 : (fun j => iI ((cpyL xs ys sp dp w).getD j 0)) = va_cpy (fun j => iI (xs.getD j 0)) (fun j => iI (ys.getD j 0)) (iI (sp : Int)).toNatClampNeg (iI (dp : Int)).toNatClampNeg (iI (w : Int)).toNatClampNeg := by
      funext j
      rw [cpyL_get hr.1 hr.2.1, c1, c2, c3, va_cpy]
      split <;> rfl
    rw [h8]
    exact h9
end ZCP
theorem in_S5 : ∀ w ∈ u_ws RJ5 TJ5 2, w ∈ lw_all := by decide +kernel
theorem tyS5_ok : ∀ k, k < 2 → parseFieldDescriptor (TJ5 k).2.2.1 = some (tyJ5 k) := fun k hk => tyJ5_ok k (by omega)
theorem nmS5 : ∀ a, a < 2 → ∀ b, b < 2 → a ≠ b → (TJ5 a).2.1 ≠ (TJ5 b).2.1 := fun a ha b hb => nmJ5 a (by omega) b (by omega)
