/-! ===== boxed ints ===== -/
def Nu (G : zE) (P : Nat → Prop) (H : Heap) (a : Nat) (v : Int) : Prop := P a ∧ va_O "java/lang/Integer" a noA G.2 H ∧ va_OF "java/lang/Integer" "value" "I" (.int (iI v)) a noA G.2 H
theorem Nu.lt {G : zE} {P : Nat → Prop} {H : Heap} {a : Nat} {v : Int} (h : Nu G P H a v) : a < H.size := by
  obtain ⟨-, ⟨c1, h1, g1⟩, -⟩ := h
  exact (Array.getElem?_eq_some_iff.mp h1).1
theorem Nu.kp {G : zE} {P P' : Nat → Prop} {H H1 : Heap} {a : Nat} {v : Int} (h : Nu G P H a v) (hk : Kp P H P' H1) : Nu G P' H1 a v := by
  have hl := h.lt
  obtain ⟨hp, ⟨c1, h1, g1⟩, ⟨cf, k, i, f, c2, h2, h3, h4, g2⟩⟩ := h
  have e := (hk a hl hp).2
  exact ⟨(hk a hl hp).1, ⟨c1, by rw [e]; exact h1, g1⟩, ⟨cf, k, i, f, c2, h2, h3, by rw [e]; exact h4, g2⟩⟩
theorem Nu.ext {G : zE} {P : Nat → Prop} {H H1 : Heap} {a : Nat} {v : Int} (h : Nu G P H a v) (e : Ext H H1) : Nu G P H1 a v := h.kp (Kp.ext e)
theorem Nu.of {G : zE} {U : State} {P : Nat → Prop} {H : Heap} {a : Nat} {v : Int} (hK : KK G U) (hp : P a) (h : Ob G H a 11 [.int (iI v)]) : Nu G P H a v := by
  obtain ⟨⟨⟨a9, h9, -⟩, hK0⟩, -⟩ := hK
  have ts : ∀ w ∈ lw_all, w.before a9 G.2 = true := fun w hw => h9 w (lw_all_tbl hw)
  obtain ⟨cell, kC, cf, fi, kf, f, q1, q2, q3, q4, hfc, hkC, hkind, hi, hsl⟩ := zObF hK0 h (rfl : zcl[11]? = some (RJ17, TJ17, 1)) (k0 := 0) (by decide)
  have hn : cell.vm ≠ .unknown := by rw [q3]; exact fun h => by cases h
  refine ⟨hp, ⟨cell, q1, by rw [q3]; rfl, by rw [q2]; exact hfc, id⟩, ⟨_, _, _, _, cell, hi, (u_facts hfc hkC (u_lays ts in_J17 (by decide : 0 < 1)) hi).1, q1, hn, ?_, id⟩⟩
  rw [hsl, q4 0 (by decide)]; rfl
theorem El.nu {G : zE} {P : Nat → Prop} {H : Heap} {a : Nat} {v : Int} (h : Nu G P H a v) : El G H a := by
  obtain ⟨-, ⟨cell, h1, h2, h3, -⟩, -⟩ := h
  exact ⟨_, q1427, cell, h1, h2, h3⟩
def IC (G : zE) (c : Nat) (ad : Nat → Nat) : Prop := va_Z "java/lang/Integer$IntegerCache" "cache" "[Ljava/lang/Integer;" (.ref c) noA G.2 G.2.heap ∧ va_T (.object "java/lang/Integer") c 256 (fun j => .ref (ad j)) noA G.2 G.2.heap ∧ ∀ k, k < 256 → Nu G (Old G) G.2.heap (ad k) ((k : Int) - 128)
theorem nar_ic1 : (Cond.arrayOf (.static "java/lang/Integer$IntegerCache" "cache" "[Ljava/lang/Integer;") (.object "java/lang/Integer")) ∈ leafs narrow_1 := by decide +kernel
theorem nar_ic2 : (Cond.eq (.length (.static "java/lang/Integer$IntegerCache" "cache" "[Ljava/lang/Integer;")) (.int 256)) ∈ leafs narrow_1 := by decide +kernel
theorem nar_ic3 : (Cond.all (.static "java/lang/Integer$IntegerCache" "cache" "[Ljava/lang/Integer;") (.and (.exactly (.elem (.static "java/lang/Integer$IntegerCache" "cache" "[Ljava/lang/Integer;") (.index 0)) "java/lang/Integer") (.eq (.field (.elem (.static "java/lang/Integer$IntegerCache" "cache" "[Ljava/lang/Integer;") (.index 0)) "java/lang/Integer" "value" "I") (.sub (.index 0) (.int 128))))) ∈ leafs narrow_1 := by decide +kernel
theorem nar_ic4 : (Cond.eq (.static "java/lang/Integer$IntegerCache" "high" "I") (.int 127)) ∈ leafs narrow_1 := by decide +kernel
theorem vb_c_i {k : Nat} (hk : k < 256) : vb_c k = iI ((k : Int) - 128) := by
  have key : ∀ j : Nat, j < 256 → vb_c j = iI ((j : Int) - 128) := by decide +kernel
  exact key k hk
theorem IC.ex {G : zE} (hz : zOK G) : ∃ c ad, IC G c ad := by
  obtain ⟨a9, h1, h2⟩ := leaf_nar hz
  have hlen : (Term.length (.static "java/lang/Integer$IntegerCache" "cache" "[Ljava/lang/Integer;")).eval a9 G.2 none [] G.2 = some (.int (Int32.ofNat 256)) := Cond.eq_int (n := 256) (h2 _ nar_ic2) rfl
  obtain ⟨ad, g1, g2⟩ := vb_Cof (args := a9) (s := G.2) (A := noA) (st := .static "java/lang/Integer$IntegerCache" "cache" "[Ljava/lang/Integer;") rfl hlen (h2 _ nar_ic3) (fun _ _ => id)
  obtain ⟨t, e1, e2⟩ := va_Tof (args := a9) (s := G.2) (tm := .static "java/lang/Integer$IntegerCache" "cache" "[Ljava/lang/Integer;") (N := 256) (f := fun j => .ref (ad j)) (A := noA) (by decide) (h2 _ nar_ic1) hlen g2 (fun _ _ => id)
  refine ⟨t, ad, va_Zof (args := a9) (h1 _ q651) (h1 _ (lw_all_tbl q56)) e1 (fun _ _ => id), e2, fun k hk => ?_⟩
  have h3 := g1.1 k hk
  obtain ⟨cell, c1, -⟩ := h3
  have h4 : va_OF "java/lang/Integer" "value" "I" (.int (vb_c k)) (ad k) noA G.2 G.2.heap := g1.2 k hk
  rw [vb_c_i hk] at h4
  exact ⟨(Array.getElem?_eq_some_iff.mp c1).1, g1.1 k hk, h4⟩
theorem ic_hi {G : zE} {U : State} (hK : KK G U) : va_Z "java/lang/Integer$IntegerCache" "high" "I" (.int (iI 127)) noA G.2 G.2.heap := by
  obtain ⟨a9, h1, h2⟩ := leaf_nar hK.1
  exact va_Zof (args := a9) (h1 _ q649) (h1 _ (lw_all_tbl q56)) (Cond.eq_int (n := 127) (h2 _ nar_ic4) rfl) (fun _ _ => id)
section ZNU
variable {p : Program} {l : Launch} {e : Env} {F Lw mc ms : Nat} {s : State} {m : MethodId} {args : Array Value} {below : List Frame} {meth : Method} {c : Code} {H : Heap} {locs : List Loc} {k n : Nat} {Q : State → Prop}
variable {cc : ByteArray} {pc : Nat} {ls : Array Slot} {rest : List Value} {own : String} {nL : Nat} {ret : Option FieldType} {G : zE} {H0 : Heap} {A : Nat → Prop}
theorem z_getI (cx : zC p s m args meth c cc own nL ret G H0) {P : Nat → Prop} {a index : Nat} {v : Int} (h : Nu G P H a v) (hlink : Cond.fieldLink own index "java/lang/Integer" "value" "I" ∈ lw_all) (d : decode cc pc = .ok (.getfield index, 3))
    (kk : W p l e ⟨F, mc, ms, Lw⟩ s m args below meth c H locs k n Q (F0 m (pc + 3) ls (.int (iI v) :: rest))) : W p l e ⟨F, mc, ms, Lw⟩ s m args below meth c H locs k n Q (F0 m pc ls (.ref a :: rest)) := by
  obtain ⟨cf, k, fi, f, cell, h1, h2, h3, h4, h5, h6⟩ := va_OF.moved cx.kk.2.alike h.2.2
  exact W.getf cx.1 cx.2.1 cx.wn (cx.ts _ hlink) h1 h2 h3 h4 (v := .int (iI v)) h5 rfl rfl d kk
theorem zrecvN (cx : zC p s m args meth c cc own nL ret G H0) {P : Nat → Prop} {a : Nat} {v : Int} (h : Nu G P H a v) : ∃ cell : Cell, H[a]? = some cell ∧ cell.vm.isStatics = false ∧ s.vm.findClass "java/lang/Integer" = some cell.cls := by
  obtain ⟨cell, h1, h2, h3, -⟩ := va_O.moved cx.kk.2.alike h.2.1
  exact ⟨cell, h1, h2, h3⟩
theorem z_aaldT (cx : zC p s m args meth c cc own nL ret G H0) {C : String} {a N : Nat} {f : Nat → Value} {z : Int} (h : va_T (.object C) a N f noA G.2 G.2.heap) (hB : Bh G H) (i : Nat) (hz : z = (i : Int) ∧ i < N ∧ N < 100000) (d : decode cc pc = .ok (.aaload, 1))
    (kk : W p l e ⟨F, mc, ms, Lw⟩ s m args below meth c H locs k n Q (F0 m (pc + 1) ls (f i :: rest))) : W p l e ⟨F, mc, ms, Lw⟩ s m args below meth c H locs k n Q (F0 m pc ls (.int (iI z) :: .ref a :: rest)) := by
  obtain ⟨cell, h1, h2, h3, h4, h5, h6, -⟩ := va_T.moved cx.kk.2.alike h
  have hz' : z = (i : Int) ∧ i < N ∧ i < 2147483648 := ⟨hz.1, hz.2.1, by omega⟩
  have hin : ¬ (iI z < 0 ∨ cell.slots.size ≤ (iI z).toNatClampNeg) := fun q => iI_in (n := N) hz' (q.imp id (fun w => Nat.le_trans h4 w))
  refine W.aald (v := f i) (ty := .object C) cx.1 cx.2.1 (by rw [hB.2 a (Array.getElem?_eq_some_iff.mp h1).1]; exact h1) h2 rfl h3 hin ?_ rfl rfl d kk
  rw [iI_cl hz']
  exact h6 i hz.2.1
theorem z_instY (cx : zC p s m args meth c cc own nL ret G H0) {a index : Nat} {nm C : String} (hlink : Cond.classLink own index nm ∈ lw_all) (hc : Cond.castable C nm ∈ lw_tbl) (hr : ∃ cell : Cell, H[a]? = some cell ∧ cell.vm.isStatics = false ∧ s.vm.findClass C = some cell.cls) (d : decode cc pc = .ok (.instanceof index, 3)) (kk : W p l e ⟨F, mc, ms, Lw⟩ s m args below meth c H locs k n Q (F0 m (pc + 3) ls (.int (iI 1) :: rest))) : W p l e ⟨F, mc, ms, Lw⟩ s m args below meth c H locs k n Q (F0 m pc ls (.ref a :: rest)) :=
  va_instY cx.1 cx.2.1 cx.wn (cx.ts _ hlink) (cx.cast hc) hr d kk
end ZNU
