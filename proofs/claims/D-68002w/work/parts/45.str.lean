/-! ===== strings, for reading: the program's own, and those that were there before it began ===== -/
abbrev noA : Nat → Prop := fun _ => False
/-- bytes, for reading -/
def Sb (G : zE) (H : Heap) (a : Nat) (xs : List Int) : Prop := va_T .byte a xs.length (fun j => .int (iI (xs.getD j 0))) noA G.2 H
/-- a Latin-1 string whose bytes lie at b -/
def Ss (G : zE) (H : Heap) (a b : Nat) : Prop := va_O "java/lang/String" a noA G.2 H ∧ va_OF "java/lang/String" "coder" "B" (.int (iI 0)) a noA G.2 H ∧ va_OF "java/lang/String" "value" "[B" (.ref b) a noA G.2 H
theorem Sb.kept {G : zE} {H H1 : Heap} {a : Nat} {xs : List Int} (h : Sb G H a xs) (e : H1[a]? = H[a]?) : Sb G H1 a xs := by
  obtain ⟨cell, h1, h2⟩ := h
  exact ⟨cell, by rw [e]; exact h1, h2⟩
theorem Ss.kept {G : zE} {H H1 : Heap} {a b : Nat} (h : Ss G H a b) (e : H1[a]? = H[a]?) : Ss G H1 a b := by
  obtain ⟨⟨c1, h1, g1⟩, ⟨cf, k, i, f, c2, h2, h3, h4, g2⟩, ⟨cf', k', i', f', c3, h5, h6, h7, g3⟩⟩ := h
  exact ⟨⟨c1, by rw [e]; exact h1, g1⟩, ⟨cf, k, i, f, c2, h2, h3, by rw [e]; exact h4, g2⟩, ⟨cf', k', i', f', c3, h5, h6, by rw [e]; exact h7, g3⟩⟩
theorem Sb.lt {G : zE} {H : Heap} {a : Nat} {xs : List Int} (h : Sb G H a xs) : a < H.size := by
  obtain ⟨cell, h1, h2⟩ := h
  exact (Array.getElem?_eq_some_iff.mp h1).1
theorem Ss.lt {G : zE} {H : Heap} {a b : Nat} (h : Ss G H a b) : a < H.size := by
  obtain ⟨⟨c1, h1, g1⟩, -⟩ := h
  exact (Array.getElem?_eq_some_iff.mp h1).1
theorem Sb.ext {G : zE} {H H1 : Heap} {a : Nat} {xs : List Int} (h : Sb G H a xs) (e : Ext H H1) : Sb G H1 a xs := h.kept (e.2 a h.lt)
theorem Ss.ext {G : zE} {H H1 : Heap} {a b : Nat} (h : Ss G H a b) (e : Ext H H1) : Ss G H1 a b := h.kept (e.2 a h.lt)
/-- a string of these characters whose cells lie in P -/
def St (G : zE) (P : Nat → Prop) (H : Heap) (a : Nat) (xs : List Int) : Prop := P a ∧ chs xs ∧ xs.length ≤ 100000 ∧ ∃ b : Nat, P b ∧ Ss G H a b ∧ Sb G H b xs
theorem St.kp {G : zE} {P P' : Nat → Prop} {H H' : Heap} {a : Nat} {xs : List Int} (h : St G P H a xs) (hk : Kp P H P' H') : St G P' H' a xs := by
  obtain ⟨h1, h2, h3, b, h4, h5, h6⟩ := h
  exact ⟨(hk a h5.lt h1).1, h2, h3, b, (hk b h6.lt h4).1, h5.kept (hk a h5.lt h1).2, h6.kept (hk b h6.lt h4).2⟩
theorem St.ext {G : zE} {P : Nat → Prop} {H H' : Heap} {a : Nat} {xs : List Int} (h : St G P H a xs) (e : Ext H H') : St G P H' a xs := h.kp (Kp.ext e)
section ZST
variable {p : Program} {l : Launch} {e : Env} {F Lw mc ms : Nat} {s : State} {m : MethodId} {args : Array Value} {below : List Frame} {meth : Method} {c : Code} {H : Heap} {locs : List Loc} {k n : Nat} {Q : State → Prop}
variable {cc : ByteArray} {pc : Nat} {ls : Array Slot} {rest : List Value} {own : String} {nL : Nat} {ret : Option FieldType} {G : zE} {H0 : Heap} {A : Nat → Prop}
theorem z_getSv (cx : zC p s m args meth c cc own nL ret G H0) {a b index : Nat} (h : Ss G H a b) (hlink : Cond.fieldLink own index "java/lang/String" "value" "[B" ∈ lw_all) (d : decode cc pc = .ok (.getfield index, 3))
    (kk : W p l e ⟨F, mc, ms, Lw⟩ s m args below meth c H locs k n Q (F0 m (pc + 3) ls (.ref b :: rest))) : W p l e ⟨F, mc, ms, Lw⟩ s m args below meth c H locs k n Q (F0 m pc ls (.ref a :: rest)) := by
  obtain ⟨cf, k, fi, f, cell, h1, h2, h3, h4, h5, h6⟩ := va_OF.moved cx.kk.2.alike h.2.2
  exact W.getf cx.1 cx.2.1 cx.wn (cx.ts _ hlink) h1 h2 h3 h4 (v := .ref b) h5 rfl rfl d kk
theorem z_getSc (cx : zC p s m args meth c cc own nL ret G H0) {a b index : Nat} (h : Ss G H a b) (hlink : Cond.fieldLink own index "java/lang/String" "coder" "B" ∈ lw_all) (d : decode cc pc = .ok (.getfield index, 3))
    (kk : W p l e ⟨F, mc, ms, Lw⟩ s m args below meth c H locs k n Q (F0 m (pc + 3) ls (.int (iI 0) :: rest))) : W p l e ⟨F, mc, ms, Lw⟩ s m args below meth c H locs k n Q (F0 m pc ls (.ref a :: rest)) := by
  obtain ⟨cf, k, fi, f, cell, h1, h2, h3, h4, h5, h6⟩ := va_OF.moved cx.kk.2.alike h.2.1
  exact W.getf cx.1 cx.2.1 cx.wn (cx.ts _ hlink) h1 h2 h3 h4 (v := .int (iI 0)) h5 rfl rfl d kk
theorem z_baldS (cx : zC p s m args meth c cc own nL ret G H0) {a : Nat} {xs : List Int} {z : Int} (h : Sb G H a xs) (i : Nat) (hz : z = (i : Int) ∧ i < xs.length ∧ i < 2147483648) (d : decode cc pc = .ok (.baload, 1))
    (kk : ∀ x : Int, xs[i]? = some x → W p l e ⟨F, mc, ms, Lw⟩ s m args below meth c H locs k n Q (F0 m (pc + 1) ls (.int (iI x) :: rest))) : W p l e ⟨F, mc, ms, Lw⟩ s m args below meth c H locs k n Q (F0 m pc ls (.int (iI z) :: .ref a :: rest)) := by
  obtain ⟨cell, h1, h2, h3, h4, h5, h6, -⟩ := va_T.moved cx.kk.2.alike h
  have hin : ¬ (iI z < 0 ∨ cell.slots.size ≤ (iI z).toNatClampNeg) := fun q => iI_in (n := xs.length) hz (q.imp id (fun w => Nat.le_trans h4 w))
  refine W.bald (v := .int (iI (xs.getD i 0))) cx.1 cx.2.1 h1 h2 h3 hin ?_ rfl rfl d ?_
  · rw [iI_cl hz]
    exact h6 i hz.2.1
  · exact kk _ (getD_lt hz.2.1)
theorem z_alenS (cx : zC p s m args meth c cc own nL ret G H0) {a : Nat} {xs : List Int} (h : Sb G H a xs) (d : decode cc pc = .ok (.arraylength, 1))
    (kk : W p l e ⟨F, mc, ms, Lw⟩ s m args below meth c H locs k n Q (F0 m (pc + 1) ls (.int (iI (xs.length : Int)) :: rest))) : W p l e ⟨F, mc, ms, Lw⟩ s m args below meth c H locs k n Q (F0 m pc ls (.ref a :: rest)) := by
  obtain ⟨cell, h1, h2, h3, h4, h5, h6, -⟩ := va_T.moved cx.kk.2.alike h
  exact W.alen (n := iI (xs.length : Int)) cx.1 cx.2.1 h1 h2 (by rw [h5, iI_ofNat]) rfl rfl d kk
theorem zrecvS (cx : zC p s m args meth c cc own nL ret G H0) {a b : Nat} (h : Ss G H a b) : ∃ cell : Cell, H[a]? = some cell ∧ cell.vm.isStatics = false ∧ s.vm.findClass "java/lang/String" = some cell.cls := by
  obtain ⟨cell, h1, h2, h3, -⟩ := va_O.moved cx.kk.2.alike h.1
  exact ⟨cell, h1, h2, h3⟩
end ZST
/-- the program's own bytes and strings are such -/
theorem Sb.of {G : zE} {U : State} {H : Heap} {a : Nat} {xs : List Int} (hK : KK G U) (h : Ai G H a 100 xs) : Sb G H a xs := by
  refine ⟨_, h, (hK.1.2.2 0 _ rfl).1 xs.length (fun j => .int (iI (xs.getD j 0))), (fun q => by cases q), ?_, ?_, fun j hj => ?_, id⟩
  · show xs.length ≤ (arrV _ _ _).slots.size
    rw [arrV_size]
    exact Nat.le_refl _
  · show (arrV _ _ _).slots.size.toInt32 = _
    rw [arrV_size]
  · show (arrV _ _ _).slots[_]? = _
    rw [arrV_read _ _ hj]
theorem Ss.of {G : zE} {U : State} {H : Heap} {a b : Nat} (hK : KK G U) (h : Ob G H a 10 [.ref b, .int (iI 0)]) : Ss G H a b := by
  obtain ⟨⟨⟨a9, h9, -⟩, hK0⟩, -⟩ := hK
  have ts : ∀ w ∈ lw_all, w.before a9 G.2 = true := fun w hw => h9 w (lw_all_tbl hw)
  obtain ⟨cell, kC, cf, fi, kf, f, q1, q2, q3, q4, hfc, hkC, hkind, hi, hsl⟩ := zObF hK0 h (rfl : zcl[10]? = some ("java/lang/String", TJ5, 2)) (k0 := 0) (by decide)
  obtain ⟨cell', kC', cf', fi', kf', f', q1', q2', q3', q4', hfc', hkC', hkind', hi', hsl'⟩ := zObF hK0 h (rfl : zcl[10]? = some ("java/lang/String", TJ5, 2)) (k0 := 1) (by decide)
  have hn : cell.vm ≠ .unknown := by rw [q3]; exact fun h => by cases h
  have hn' : cell'.vm ≠ .unknown := by rw [q3']; exact fun h => by cases h
  refine ⟨⟨cell, q1, by rw [q3]; rfl, by rw [q2]; exact hfc, id⟩, ⟨_, _, _, _, cell', hi', (u_facts hfc' hkC' (u_lays ts in_J5 (by decide : 1 < 4)) hi').1, q1', hn', ?_, id⟩, ⟨_, _, _, _, cell, hi, (u_facts hfc hkC (u_lays ts in_J5 (by decide : 0 < 4)) hi).1, q1, hn, ?_, id⟩⟩
  · rw [hsl', q4' 1 (by decide)]; rfl
  · rw [hsl, q4 0 (by decide)]; rfl
