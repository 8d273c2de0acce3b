/-! ===== a shift by none ===== -/
section ZSH
variable {p : Program} {l : Launch} {e : Env} {F Lw mc ms : Nat} {s : State} {m : MethodId} {args : Array Value} {below : List Frame} {meth : Method} {c : Code} {H : Heap} {locs : List Loc} {k n : Nat} {Q : State → Prop}
variable {cc : ByteArray} {pc : Nat} {ls : Array Slot} {rest : List Value} {own : String} {nL : Nat} {ret : Option FieldType} {G : zE} {H0 : Heap} {A : Nat → Prop}
theorem iI_shl0 (z : Int) : iI z <<< (iI 0 &&& 31) = iI z := by
  show iI z <<< (0 : Int32) = iI z
  exact Int32.shiftLeft_zero
theorem z_ishl0 (cx : zC p s m args meth c cc own nL ret G H0) {z : Int} (d : decode cc pc = .ok (.ishl, 1)) (kk : W p l e ⟨F, mc, ms, Lw⟩ s m args below meth c H locs k n Q (F0 m (pc + 1) ls (.int (iI z) :: rest))) : W p l e ⟨F, mc, ms, Lw⟩ s m args below meth c H locs k n Q (F0 m pc ls (.int (iI 0) :: .int (iI z) :: rest)) :=
  lv_ishl cx.1 cx.2.1 d (by rw [iI_shl0]; exact kk)
end ZSH
