/-! ===== steps of the string code ===== -/
section ZSO
variable {p : Program} {l : Launch} {e : Env} {F Lw mc ms : Nat} {s : State} {m : MethodId} {args : Array Value} {below : List Frame} {meth : Method} {c : Code} {H : Heap} {locs : List Loc} {k n : Nat} {Q : State → Prop}
variable {cc : ByteArray} {pc : Nat} {ls : Array Slot} {rest : List Value} {own : String} {nL : Nat} {ret : Option FieldType} {G : zE} {H0 : Heap} {A : Nat → Prop}
theorem iI_shr0 (z : Int) : iI z >>> (iI 0 &&& 31) = iI z := by
  show iI z >>> (0 : Int32) = iI z
  exact Int32.shiftRight_zero
theorem iI_and255 {z : Int} (h : 0 ≤ z ∧ z < 256) : iI z &&& iI 255 = iI z := by
  obtain ⟨i, rfl⟩ : ∃ i : Nat, z = (i : Int) := ⟨z.toNat, by omega⟩
  have h2 : i < 256 := by omega
  have key : ∀ j : Nat, j < 256 → iI (j : Int) &&& iI 255 = iI (j : Int) := by decide +kernel
  exact key i h2
theorem z_ishr0 (cx : zC p s m args meth c cc own nL ret G H0) {z : Int} (d : decode cc pc = .ok (.ishr, 1)) (kk : W p l e ⟨F, mc, ms, Lw⟩ s m args below meth c H locs k n Q (F0 m (pc + 1) ls (.int (iI z) :: rest))) : W p l e ⟨F, mc, ms, Lw⟩ s m args below meth c H locs k n Q (F0 m pc ls (.int (iI 0) :: .int (iI z) :: rest)) :=
  lv_ishr cx.1 cx.2.1 d (by rw [iI_shr0]; exact kk)
theorem z_iand255 (cx : zC p s m args meth c cc own nL ret G H0) {z : Int} (h : 0 ≤ z ∧ z < 256) (d : decode cc pc = .ok (.iand, 1)) (kk : W p l e ⟨F, mc, ms, Lw⟩ s m args below meth c H locs k n Q (F0 m (pc + 1) ls (.int (iI z) :: rest))) : W p l e ⟨F, mc, ms, Lw⟩ s m args below meth c H locs k n Q (F0 m pc ls (.int (iI 255) :: .int (iI z) :: rest)) :=
  lv_iand cx.1 cx.2.1 d (by rw [iI_and255 h]; exact kk)
theorem z_instE (cx : zC p s m args meth c cc own nL ret G H0) {a index : Nat} {nm : String} (hlink : Cond.classLink own index nm ∈ lw_all) (hr : ∃ cell : Cell, H[a]? = some cell ∧ cell.vm.isStatics = false ∧ s.vm.findClass nm = some cell.cls) (d : decode cc pc = .ok (.instanceof index, 3)) (kk : W p l e ⟨F, mc, ms, Lw⟩ s m args below meth c H locs k n Q (F0 m (pc + 3) ls (.int (iI 1) :: rest))) : W p l e ⟨F, mc, ms, Lw⟩ s m args below meth c H locs k n Q (F0 m pc ls (.ref a :: rest)) :=
  va_instE cx.1 cx.2.1 cx.wn (cx.ts _ hlink) hr d kk
theorem z_mmax (cx : zC p s m args meth c cc own nL ret G H0) {a b z : Int} {index : Nat} {lv : List (Nat × Value)} (hlink : Cond.methodLink own index ⟨"java/lang/Math", "max", "(II)I"⟩ ∈ lw_all) (hr : rg a ∧ rg b) (hz : z = if a < b then b else a) (hl : lv_has ls nL lv) (hcat : (rest.map fun v => v.category).sum ≤ 8) (hR : 1 ≤ F ∧ 21 ≤ Lw) (hk : k ≤ mc ∧ n ≤ ms) (d : decode cc pc = .ok (.invokestatic index, 3)) (kk : W p l e ⟨F, mc, ms, Lw⟩ s m args below meth c H locs k n Q (F0 m (pc + 3) ls (.int (iI z) :: rest))) : W p l e ⟨F, mc, ms, Lw⟩ s m args below meth c H locs k n Q (F0 m pc ls (.int (iI b) :: .int (iI a) :: rest)) := by
  refine va_mmax cx.1 cx.2.1 (cx.2.2.1.trans hl.1.symm) cx.wn (cx.ts _ hlink) (cx.ts _ q222) (cx.ts _ q45) (cx.ts _ q223) hR.1 (by have := hR.2; show _ + 13 ≤ Lw; omega) hk.1 hk.2 d ?_
  by_cases h : a < b
  · rw [if_pos ((iI_lt hr.1 hr.2).mpr h)]; rw [hz, if_pos h] at kk; exact kk
  · rw [if_neg (fun q => h ((iI_lt hr.1 hr.2).mp q))]; rw [hz, if_neg h] at kk; exact kk
theorem z_mmin (cx : zC p s m args meth c cc own nL ret G H0) {a b z : Int} {index : Nat} {lv : List (Nat × Value)} (hlink : Cond.methodLink own index ⟨"java/lang/Math", "min", "(II)I"⟩ ∈ lw_all) (hr : rg a ∧ rg b) (hz : z = if b < a then b else a) (hl : lv_has ls nL lv) (hcat : (rest.map fun v => v.category).sum ≤ 8) (hR : 1 ≤ F ∧ 21 ≤ Lw) (hk : k ≤ mc ∧ n ≤ ms) (d : decode cc pc = .ok (.invokestatic index, 3)) (kk : W p l e ⟨F, mc, ms, Lw⟩ s m args below meth c H locs k n Q (F0 m (pc + 3) ls (.int (iI z) :: rest))) : W p l e ⟨F, mc, ms, Lw⟩ s m args below meth c H locs k n Q (F0 m pc ls (.int (iI b) :: .int (iI a) :: rest)) := by
  refine va_mmin cx.1 cx.2.1 (cx.2.2.1.trans hl.1.symm) cx.wn (cx.ts _ hlink) (cx.ts _ q240) (cx.ts _ q45) (cx.ts _ q241) hR.1 (by have := hR.2; show _ + 13 ≤ Lw; omega) hk.1 hk.2 d ?_
  by_cases h : b < a
  · rw [if_pos ((iI_lt hr.2 hr.1).mpr h)]; rw [hz, if_pos h] at kk; exact kk
  · rw [if_neg (fun q => h ((iI_lt hr.2 hr.1).mp q))]; rw [hz, if_neg h] at kk; exact kk
end ZSO
/-- the place of a sign in a text, -1 -/
def ixo (xs : List Int) (z : Int) : Int := if nxt xs z 0 xs.length < xs.length then (nxt xs z 0 xs.length : Int) else -1
theorem fin256 {q : Nat → Prop} [DecidablePred q] (key : ∀ j : Nat, j < 256 → q j) {z : Int} (h : 0 ≤ z ∧ z < 256) : q z.toNat := key _ (by omega)
theorem iI_c {z : Int} (h : 0 ≤ z ∧ z < 256) : ((iI z).toUInt32 % 65536).toInt32 = iI z := by
  have h1 := fin256 (q := fun j => ((iI (j : Int)).toUInt32 % 65536).toInt32 = iI (j : Int)) (by decide +kernel) h
  rw [Int.toNat_of_nonneg h.1] at h1
  exact h1
theorem iI_b {z : Int} (h : 0 ≤ z ∧ z < 128) : (iI z).toInt8.toInt32 = iI z := by
  have h1 := fin256 (q := fun j => j < 128 → (iI (j : Int)).toInt8.toInt32 = iI (j : Int)) (by decide +kernel) (z := z) (by omega)
  have h1 := h1 (by omega)
  rw [Int.toNat_of_nonneg h.1] at h1
  exact h1
theorem c_nar {z : Int} (h : 0 ≤ z ∧ z < 256) : narrow .char (.int (iI z)) = .int (iI z) := by
  have h1 := fin256 (q := fun j => narrow .char (.int (iI (j : Int))) = .int (iI (j : Int))) (by decide +kernel) h
  rw [Int.toNat_of_nonneg h.1] at h1
  exact h1
theorem Sb.uniq {G : zE} {H : Heap} {a : Nat} {xs ys : List Int} (h1 : Sb G H a xs) (h2 : Sb G H a ys) (c1 : chs xs) (c2 : chs ys) (l1 : xs.length ≤ 100000) (l2 : ys.length ≤ 100000) : xs = ys := by
  obtain ⟨cell, g1, g2, g3, g4, g5, g6, -⟩ := h1
  obtain ⟨cell', e1, e2, e3, e4, e5, e6, -⟩ := h2
  have : cell = cell' := Option.some.inj (g1.symm.trans e1)
  subst this
  rw [g5, iI_ofNat, iI_ofNat] at e5
  have h3 : xs.length = ys.length := by
    have h4 := congrArg Int32.toInt e5
    rw [iI_toInt (by omega), iI_toInt (by omega)] at h4
    omega
  refine List.ext_getElem h3 (fun i h4 h5 => ?_)
  have h6 := g6 i h4
  rw [e6 i h5] at h6
  injection h6 with h6
  injection h6 with h6
  have b1 := c1 _ (List.getElem_mem h4)
  have b2 := c2 _ (List.getElem_mem h5)
  have x1 : xs.getD i 0 = xs[i] := by rw [List.getD_eq_getElem?_getD, List.getElem?_eq_getElem h4]; rfl
  have x2 : ys.getD i 0 = ys[i] := by rw [List.getD_eq_getElem?_getD, List.getElem?_eq_getElem h5]; rfl
  have h7 := congrArg Int32.toInt h6
  rw [x1, x2, iI_toInt (by omega), iI_toInt (by omega)] at h7
  exact h7.symm
theorem Ss.uniq {G : zE} {H : Heap} {a b c : Nat} (h1 : Ss G H a b) (h2 : Ss G H a c) : b = c := by
  obtain ⟨-, -, cf, k, i, f, cell, g1, g2, g3, g4, g5, -⟩ := h1
  obtain ⟨-, -, cf', k', i', f', cell', e1, e2, e3, e4, e5, -⟩ := h2
  have h3 := g1.symm.trans e1
  have : cell = cell' := Option.some.inj (g3.symm.trans e3)
  subst this
  cases h3
  have h4 := g5.symm.trans e5
  cases h4
  rfl
theorem St.uniq {G : zE} {P P' : Nat → Prop} {H : Heap} {a : Nat} {xs ys : List Int} (h1 : St G P H a xs) (h2 : St G P' H a ys) : xs = ys := by
  obtain ⟨-, c1, l1, b, -, s1, g1⟩ := h1
  obtain ⟨-, c2, l2, b', -, s2, g2⟩ := h2
  have := s1.uniq s2
  subst this
  exact g1.uniq g2 c1 c2 l1 l2
