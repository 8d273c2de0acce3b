/-! ===== rows for lists and builders ===== -/
/-- the array of an empty list -/
def E0 (G : zE) (a : Nat) : Prop := va_Z "java/util/ArrayList" "DEFAULTCAPACITY_EMPTY_ELEMENTDATA" "[Ljava/lang/Object;" (.ref a) noA G.2 G.2.heap ∧ va_T (.object "java/lang/Object") a 0 (fun _ => .null) noA G.2 G.2.heap
theorem nar_em2 : (Cond.arrayOf (.static "java/util/ArrayList" "DEFAULTCAPACITY_EMPTY_ELEMENTDATA" "[Ljava/lang/Object;") (.object "java/lang/Object")) ∈ leafs narrow_1 := by decide +kernel
theorem nar_em3 : (Cond.eq (.length (.static "java/util/ArrayList" "DEFAULTCAPACITY_EMPTY_ELEMENTDATA" "[Ljava/lang/Object;")) (.int 0)) ∈ leafs narrow_1 := by decide +kernel
theorem E0.ex {G : zE} (hz : zOK G) : ∃ a, E0 G a := by
  obtain ⟨a9, h1, h2⟩ := leaf_nar hz
  obtain ⟨t, e1, e2⟩ := va_Tof (args := a9) (s := G.2) (tm := .static "java/util/ArrayList" "DEFAULTCAPACITY_EMPTY_ELEMENTDATA" "[Ljava/lang/Object;") (N := 0) (f := fun _ => .null) (A := noA) (by decide) (h2 _ nar_em2) (Cond.eq_int (n := 0) (h2 _ nar_em3) rfl) (fun j hj => absurd hj (Nat.not_lt_zero _)) (fun _ _ => id)
  exact ⟨t, va_Zof (args := a9) (h1 _ q85) (h1 _ (lw_all_tbl q35)) e1 (fun _ _ => id), e2⟩
noncomputable def e0 (G : zE) : Nat := @Classical.epsilon Nat ⟨0⟩ (E0 G)
theorem e0_ok {G : zE} (hz : zOK G) : E0 G (e0 G) := Classical.epsilon_spec (E0.ex hz)
theorem e0_z {G : zE} {U : State} (hK : KK G U) : va_Z "java/util/ArrayList" "DEFAULTCAPACITY_EMPTY_ELEMENTDATA" "[Ljava/lang/Object;" (.ref (e0 G)) noA G.2 G.2.heap := (e0_ok hK.1).1
/-- what may lie in a row of objects -/
def El (G : zE) (H : Heap) (y : Nat) : Prop := ∃ C : String, Cond.castable C "java/lang/Object" ∈ lw_tbl ∧ ∃ cell : Cell, H[y]? = some cell ∧ cell.vm.isStatics = false ∧ G.2.vm.findClass C = some cell.cls
theorem El.kept {G : zE} {H H1 : Heap} {y : Nat} (h : El G H y) (e : H1[y]? = H[y]?) : El G H1 y := by
  obtain ⟨C, h1, cell, h2, h3⟩ := h
  exact ⟨C, h1, cell, by rw [e]; exact h2, h3⟩
theorem El.lt {G : zE} {H : Heap} {y : Nat} (h : El G H y) : y < H.size := by
  obtain ⟨C, h1, cell, h2, h3⟩ := h
  exact (Array.getElem?_eq_some_iff.mp h2).1
theorem El.ext {G : zE} {H H1 : Heap} {y : Nat} (h : El G H y) (e : Ext H H1) : El G H1 y := h.kept (e.2 y h.lt)
theorem El.any {G : zE} {s : State} {H : Heap} {y : Nat} (h : El G H y) (hK : KK G s) : va_Any "java/lang/Object" s H y := by
  obtain ⟨C, h1, cell, h2, h3, h4⟩ := h
  have hC : va_Nw (.castable C "java/lang/Object") s := by
    obtain ⟨⟨⟨a9, h9, -⟩, -⟩, hW⟩ := hK
    exact va_Nw.warmC (U := s) hW (va_Nw.of rfl (h9 _ h1))
  have h5 : s.vm.findClass C = some cell.cls := by rw [hK.2.alike.findClass]; exact h4
  obtain ⟨kC, hkC, -⟩ := Vm.findClass_spec h5
  obtain ⟨c0, t0, f1, f2, f3⟩ := Cond.castable_spec (args := #[]) (va_Nw.use rfl hC)
  cases h5.symm.trans f1
  exact ⟨cell, h2, h3, ⟨kC, hkC⟩, fun comp hc => by cases hc.symm.trans f2; exact f3⟩
theorem El.ob {G : zE} {U : State} {H : Heap} {y ci : Nat} {q : vw_C} {vs : List Value} (hK : KK G U) (h : Ob G H y ci vs) (hc : zcl[ci]? = some q) (hq : Cond.castable q.1 "java/lang/Object" ∈ lw_tbl) : El G H y := by
  obtain ⟨r, h1, cell, q1, q2, q3, q4⟩ := h
  have hr : r = q := Option.some.inj (h1.symm.trans hc)
  subst hr
  exact ⟨_, hq, cell, q1, by rw [q3]; rfl, by rw [q2]; exact (hK.1.2.1 ci _ hc).2.1⟩
theorem El.st {G : zE} {P : Nat → Prop} {H : Heap} {y : Nat} {xs : List Int} (h : St G P H y xs) : El G H y := by
  obtain ⟨-, -, -, b, -, ⟨⟨cell, h1, h2, h3, -⟩, -⟩, -⟩ := h
  exact ⟨_, q1425, cell, h1, h2, h3⟩
/-- the array of a list: that of an empty one, or its own -/
def EDok (G : zE) (H : Heap) (ed : Nat) (rs : List Nat) (cap : Nat) : Prop := (rs = [] ∧ ed = e0 G ∧ cap = 0) ∨ (G.2.heap.size ≤ ed ∧ 0 < cap ∧ rs.length ≤ cap ∧ Aq G H ed 103 (rs.map some ++ List.replicate (cap - rs.length) none))
theorem EDok.le {G : zE} {H : Heap} {ed cap : Nat} {rs : List Nat} (h : EDok G H ed rs cap) : rs.length ≤ cap := by
  rcases h with ⟨h1, -, -⟩ | ⟨-, -, h1, -⟩
  · rw [h1]; exact Nat.zero_le _
  · exact h1
theorem EDok.kept {G : zE} {H H1 : Heap} {ed cap : Nat} {rs : List Nat} (h : EDok G H ed rs cap) (e : ed < H.size → G.2.heap.size ≤ ed → H1[ed]? = H[ed]?) : EDok G H1 ed rs cap := by
  rcases h with h | ⟨h1, h2, h3, h4⟩
  · exact Or.inl h
  · exact Or.inr ⟨h1, h2, h3, h4.kept (e h4.lt h1)⟩
theorem EDok.ext {G : zE} {H H1 : Heap} {ed cap : Nat} {rs : List Nat} (h : EDok G H ed rs cap) (e : Ext H H1) : EDok G H1 ed rs cap := h.kept (fun hl _ => e.2 ed hl)
theorem EDok.ne {G : zE} {U : State} {H : Heap} {ed cap b c : Nat} {rs : List Nat} (h : EDok G H ed rs cap) (hK : KK G U) (hb : Cl G H b c) (hbb : G.2.heap.size ≤ b) (hne : (zok 103 && zok c && decide (zname 103 ≠ zname c)) = true) : ed ≠ b := by
  rcases h with ⟨-, h, -⟩ | ⟨h1, h2, h3, h4⟩
  · have h9 : e0 G < G.2.heap.size := by
      obtain ⟨cell, h1, -⟩ := (e0_ok hK.1).2
      exact (Array.getElem?_eq_some_iff.mp h1).1
    omega
  · exact h4.cl.ne hb hK hne
/-- how a list's array grows -/
def gr (cap : Nat) : Nat := if cap = 0 then 10 else cap + max 1 (cap / 2)
theorem gr_or (cap : Nat) : (cap = 0 ∧ gr cap = 10) ∨ (0 < cap ∧ gr cap = cap + max 1 (cap / 2)) := by
  unfold gr
  split
  · exact Or.inl ⟨by assumption, rfl⟩
  · exact Or.inr ⟨by omega, rfl⟩
theorem mapsome_get {rs : List Nat} {pad : List (Option Nat)} {i : Nat} (h : i < rs.length) : (rs.map some ++ pad)[i]? = some (some (rs.getD i 0)) := by
  rw [List.getElem?_append_left (by rw [List.length_map]; exact h), List.getElem?_map, List.getD_eq_getElem?_getD, List.getElem?_eq_getElem h]; rfl
theorem getDn {rs : List Nat} {i : Nat} (h : i < rs.length) : rs[i]? = some (rs.getD i 0) := by
  rw [List.getD_eq_getElem?_getD, List.getElem?_eq_getElem h]; rfl
def cpyG {A : Type} (xs ys : List A) (sp dp m : Nat) : List A := ys.take dp ++ ((xs.drop sp).take m ++ ys.drop (dp + m))
theorem cpyG_len {A : Type} {xs ys : List A} {sp dp m : Nat} (h1 : sp + m ≤ xs.length) (h2 : dp + m ≤ ys.length) : (cpyG xs ys sp dp m).length = ys.length := by
  unfold cpyG
  rw [List.length_append, List.length_append, List.length_take, List.length_take, List.length_drop, List.length_drop]
  omega
theorem cpyG_get {xs ys : List (Option Nat)} {sp dp m : Nat} (h1 : sp + m ≤ xs.length) (h2 : dp + m ≤ ys.length) (j : Nat) : (cpyG xs ys sp dp m).getD j none = if dp ≤ j ∧ j < dp + m then xs.getD (sp + (j - dp)) none else ys.getD j none := by
  unfold cpyG
  simp only [List.getD_eq_getElem?_getD]
  have l1 : (ys.take dp).length = dp := by rw [List.length_take]; omega
  have l2 : ((xs.drop sp).take m).length = m := by rw [List.length_take, List.length_drop]; omega
  by_cases hj : j < dp
  · rw [List.getElem?_append_left (by omega), if_neg (by omega), List.getElem?_take, if_pos hj]
  · rw [List.getElem?_append_right (by omega), l1]
    by_cases hj2 : j < dp + m
    · rw [List.getElem?_append_left (by omega), if_pos (by omega), List.getElem?_take, if_pos (by omega), List.getElem?_drop]
    · rw [List.getElem?_append_right (by omega), l2, if_neg (by omega), List.getElem?_drop]
      congr 2
      omega
section ZL6
variable {p : Program} {l : Launch} {e : Env} {F Lw mc ms : Nat} {s : State} {m : MethodId} {args : Array Value} {below : List Frame} {meth : Method} {c : Code} {H : Heap} {locs : List Loc} {k n : Nat} {Q : State → Prop}
variable {cc : ByteArray} {pc : Nat} {ls : Array Slot} {rest : List Value} {own : String} {nL : Nat} {ret : Option FieldType} {G : zE} {H0 : Heap} {A : Nat → Prop}
theorem iI_shr1 {n : Nat} (h : n < 2147483648) : iI (n : Int) >>> (iI 1 &&& 31) = iI ((n / 2 : Nat) : Int) := by
  have h1 : (iI 1 &&& 31 : Int32) = 1 := rfl
  rw [h1]
  apply Int32.toInt_inj.mp
  have e : ((iI (n : Int)) >>> (1 : Int32)).toInt = (iI (n : Int)).toInt >>> (1 : Nat) := by
    show ((iI (n : Int)).toBitVec.sshiftRight' ((1 : Int32).toBitVec.smod 32)).toInt = _
    rw [BitVec.toInt_sshiftRight']; rfl
  rw [e, iI_toInt (by omega), iI_toInt (by omega), Int.shiftRight_eq_div_pow]
  omega
theorem z_ishr1 (cx : zC p s m args meth c cc own nL ret G H0) {n' : Int} {n : Nat} {k0 n0 : Nat} (hn : n' = (n : Int) ∧ n < 2147483648) (d : decode cc pc = .ok (.ishr, 1)) (kk : W p l e ⟨F, mc, ms, Lw⟩ s m args below meth c H locs k0 n0 Q (F0 m (pc + 1) ls (.int (iI ((n / 2 : Nat) : Int)) :: rest))) : W p l e ⟨F, mc, ms, Lw⟩ s m args below meth c H locs k0 n0 Q (F0 m pc ls (.int (iI 1) :: .int (iI n') :: rest)) :=
  lv_ishr cx.1 cx.2.1 d (by rw [hn.1, iI_shr1 hn.2]; exact kk)
theorem z_alenE (cx : zC p s m args meth c cc own nL ret G H0) {a cap : Nat} {rs : List Nat} (hB : Bh G H) (h : EDok G H a rs cap) (d : decode cc pc = .ok (.arraylength, 1))
    (kk : W p l e ⟨F, mc, ms, Lw⟩ s m args below meth c H locs k n Q (F0 m (pc + 1) ls (.int (iI (cap : Int)) :: rest))) : W p l e ⟨F, mc, ms, Lw⟩ s m args below meth c H locs k n Q (F0 m pc ls (.ref a :: rest)) := by
  rcases h with ⟨-, rfl, rfl⟩ | ⟨h1, h2, h3, h4⟩
  · obtain ⟨cell, h1, h2, h3, h4, h5, h6, -⟩ := va_T.moved cx.kk.2.alike (e0_ok cx.kk.1).2
    exact W.alen (n := iI ((0 : Nat) : Int)) cx.1 cx.2.1 (by rw [hB.2 _ (Array.getElem?_eq_some_iff.mp h1).1]; exact h1) h2 (by rw [h5, iI_ofNat]) rfl rfl d kk
  · have h5 : (rs.map some ++ List.replicate (cap - rs.length) (none : Option Nat)).length = cap := by rw [List.length_append, List.length_map, List.length_replicate]; omega
    refine z_alenQ cx (t0 := 3) h4 rfl d ?_
    rw [h5]
    exact kk
theorem z_aaldE (cx : zC p s m args meth c cc own nL ret G H0) {a cap : Nat} {rs : List Nat} {z : Int} (h : EDok G H a rs cap) (i : Nat) (hz : z = (i : Int) ∧ i < rs.length ∧ i < 2147483648) (d : decode cc pc = .ok (.aaload, 1))
    (kk : ∀ x : Nat, rs[i]? = some x → W p l e ⟨F, mc, ms, Lw⟩ s m args below meth c H locs k n Q (F0 m (pc + 1) ls (.ref x :: rest))) : W p l e ⟨F, mc, ms, Lw⟩ s m args below meth c H locs k n Q (F0 m pc ls (.int (iI z) :: .ref a :: rest)) := by
  rcases h with ⟨rfl, -, -⟩ | ⟨h1, h2, h3, h4⟩
  · exact absurd hz.2.1 (Nat.not_lt_zero _)
  · refine z_aald cx (t0 := 3) h4 rfl rfl i ⟨hz.1, by rw [List.length_append, List.length_map]; omega, hz.2.2⟩ d (fun x hx => ?_)
    rw [mapsome_get hz.2.1] at hx
    cases hx
    exact kk _ (getDn hz.2.1)
/-- an object into a row of objects -/
theorem z_aastO (cx : zC p s m args meth c cc own nL ret G H0) {a v : Nat} {rs : List (Option Nat)} {z : Int} (h : Aq G H a 103 rs) (hv : El G H v) (hA : A a) (hS : va_S A H0 H locs) (i : Nat) (hz : z = (i : Int) ∧ i < rs.length ∧ i < 2147483648) (d : decode cc pc = .ok (.aastore, 1))
    (kk : ∀ (H1 : Heap) (locs1 : List Loc), Aq G H1 a 103 (rs.set i (some v)) → H1.size = H.size → (∀ q : Nat, q ≠ a → H1[q]? = H[q]?) → va_S A H0 H1 locs1 → W p l e ⟨F, mc, ms, Lw⟩ s m args below meth c H1 locs1 k n Q (F0 m (pc + 1) ls rest)) : W p l e ⟨F, mc, ms, Lw⟩ s m args below meth c H locs k n Q (F0 m pc ls (.ref v :: .int (iI z) :: .ref a :: rest)) := by
  refine z_aast (t0 := 3) (ty := .object "java/lang/Object") cx h rfl rfl hA hS (fun comp kA hkA hkind => ?_) i hz d kk
  obtain ⟨kA', comp', h1, h2, h3, -⟩ := (cx.arr (t0 := 3) rfl).2
  rw [h1] at hkA
  cases hkA
  rw [h2] at hkind
  cases hkind
  obtain ⟨cell, g1, g2, ⟨kC, hkC⟩, g4⟩ := hv.any cx.kk
  obtain ⟨kE, hkE, -⟩ := Vm.findClass_spec h3
  exact ⟨cell, kC, kE, g1, g2, hkC, hkE, g4 _ h3⟩
/-- references copied -/
theorem z_copyR (cx : zC p s m args meth c cc own nL ret G H0) {b a index : Nat} {xs ys : List (Option Nat)} {sp dp w : Nat} {z1 z2 z3 : Int} {lv : List (Nat × Value)} (h : Aq G H b 103 xs) (h2 : Aq G H a 103 ys) (hA : A a) (hS : va_S A H0 H locs) (hel : ∀ y, some y ∈ xs → El G H y) (hz : z1 = (sp : Int) ∧ z2 = (dp : Int) ∧ z3 = (w : Int)) (hr : sp + w ≤ xs.length ∧ dp + w ≤ ys.length ∧ xs.length ≤ 1000000 ∧ ys.length ≤ 1000000) (hlink : Cond.methodLink own index ⟨"java/lang/System", "arraycopy", "(Ljava/lang/Object;ILjava/lang/Object;II)V"⟩ ∈ lw_all) (hl : lv_has ls nL lv) (hcat : (rest.map fun v => v.category).sum ≤ 8) (hR : 1 ≤ F ∧ 60 ≤ Lw) (d : decode cc pc = .ok (.invokestatic index, 3))
    (kk : ∀ (H1 : Heap) (locs1 : List Loc), Aq G H1 a 103 (cpyG xs ys sp dp w) → H1.size = H.size → (∀ q : Nat, q ≠ a → H1[q]? = H[q]?) → va_S A H0 H1 locs1 → W p l e ⟨F, mc, ms, Lw⟩ s m args below meth c H1 locs1 k n Q (F0 m (pc + 3) ls rest)) : W p l e ⟨F, mc, ms, Lw⟩ s m args below meth c H locs k n Q (F0 m pc ls (.int (iI z3) :: .int (iI z2) :: .ref a :: .int (iI z1) :: .ref b :: rest)) := by
  obtain ⟨rfl, rfl, rfl⟩ := hz
  have c1 : (iI (sp : Int)).toNatClampNeg = sp := iI_clamp (by omega)
  have c2 : (iI (dp : Int)).toNatClampNeg = dp := iI_clamp (by omega)
  have c3 : (iI (w : Int)).toNatClampNeg = w := iI_clamp (by omega)
  have ng : ∀ i : Nat, i < 2147483648 → ¬ iI (i : Int) < 0 := fun i hi q => by
    rw [iI_0, iI_lt (by omega) (by omega)] at q
    omega
  have tI : ∀ i : Nat, i < 2147483648 → (iI (i : Int)).toInt = (i : Int) := fun i hi => iI_toInt (by omega)
  intro T hT X
  have hc0 : H[b]? = some (vp_cell (G.1.1 103) (xs.length, .inr (.inr (.inr (.inr (fun j => xs.getD j none)))))) := h
  have hc1 : H[a]? = some (vp_cell (G.1.1 103) (ys.length, .inr (.inr (.inr (.inr (fun j => ys.getD j none)))))) := h2
  obtain ⟨-, k0, hk0, cm0, hkk0⟩ := (cx.arr (t0 := 3) rfl).1 xs.length (fun j => va_rf (xs.getD j none))
  obtain ⟨vm', X', step⟩ := X.arraycopy cx.1 cx.wn (cx.ts _ hlink) (cx.ts _ q244) (cx.ts _ q243) (cx.ts _ q47) (src := b) (dst := a) (cs := vp_cell (G.1.1 103) (xs.length, .inr (.inr (.inr (.inr (fun j => xs.getD j none)))))) (cd := vp_cell (G.1.1 103) (ys.length, .inr (.inr (.inr (.inr (fun j => ys.getD j none)))))) (srcPos := iI (sp : Int)) (destPos := iI (dp : Int)) (n := iI (w : Int)) (by rw [hT]; exact hc0) (by rw [hT]; exact hc1)
    (fun _ h => by cases h) (fun _ h => by cases h) (fun h => by cases h) (fun h => by cases h) hk0 hk0 hkk0 hkk0 rfl (ng sp (by omega)) (ng dp (by omega)) (ng w (by omega))
    (by rw [tI sp (by omega), tI w (by omega)]; show ¬ _ > ((arrV (G.1.1 103) xs.length (fun j => va_rf (xs.getD j none))).slots.size : Int); rw [arrV_size]; omega)
    (by rw [tI dp (by omega), tI w (by omega)]; show ¬ _ > ((arrV (G.1.1 103) ys.length (fun j => va_rf (ys.getD j none))).slots.size : Int); rw [arrV_size]; omega)
    (fun vm₁ hal i hi => by
      rw [c3] at hi
      rw [c1]
      have e : (vp_cell (G.1.1 103) (xs.length, .inr (.inr (.inr (.inr (fun j => xs.getD j none)))))).slots.getD (sp + i) .null = va_rf (xs.getD (sp + i) none) := by
        show (arrV (G.1.1 103) xs.length (fun j => va_rf (xs.getD j none))).slots.getD _ _ = _
        rw [Array.getD_eq_getD_getElem?, arrV_read _ _ (by omega)]
        rfl
      rw [e]
      cases hy : xs.getD (sp + i) none with
      | none => exact ⟨rfl, trivial⟩
      | some y =>
        have hym : some y ∈ xs := by
          have h9 := getD_ltq (xs := xs) (i := sp + i) (by omega)
          rw [hy] at h9
          exact List.mem_of_getElem? h9
        obtain ⟨cellV, g1, g2, ⟨kC, hkC⟩, hasg⟩ := (hel y hym).any cx.kk
        obtain ⟨kA, comp, r1, r2, r3, -⟩ := (cx.arr (t0 := 3) rfl).2
        cases hk0.symm.trans r1
        cases hkk0.symm.trans r2
        obtain ⟨kE, hkE, -⟩ := Vm.findClass_spec r3
        obtain ⟨kC', hkC', -⟩ := hal.2.2 _ _ hkC
        obtain ⟨kE', hkE', -⟩ := hal.2.2 _ _ hkE
        refine ⟨rfl, cellV, (show T.heap[y]? = some cellV by rw [hT]; exact g1), (fun q h => by rw [h] at g2; cases g2), ⟨kC', hkC'⟩, ?_, ?_⟩
        · exact ⟨kE', hkE'⟩
        · show vm₁.assignable _ _ = true
          rw [hal.assignable]
          exact hasg _ r3)
    (g := F0 m pc ls (.int (iI (w : Int)) :: .int (iI (dp : Int)) :: .ref a :: .int (iI (sp : Int)) :: .ref b :: rest)) rfl (by rw [cx.2.2.1]; exact hl.1) (rest := rest) rfl (by rw [cx.2.1]; exact d) hR.1 (by have := hR.2; have h9 : nativeFrameWords "java/lang/System" "arraycopy" 5 ≤ 40 := (by decide +kernel); show 2 * 0 + _ + _ ≤ Lw; omega)
  have e1 : copied (vp_cell (G.1.1 103) (xs.length, .inr (.inr (.inr (.inr (fun j => xs.getD j none)))))) (vp_cell (G.1.1 103) (ys.length, .inr (.inr (.inr (.inr (fun j => ys.getD j none)))))) (iI (sp : Int)) (iI (dp : Int)) (iI (w : Int)) = vp_cell (G.1.1 103) (ys.length, .inr (.inr (.inr (.inr (fun j => (cpyG xs ys sp dp w).getD j none))))) := by
    rw [vp_cell_q, vp_cell_q, vp_cell_q]
    refine (va_copied (fun z => va_rf z) (G.1.1 103) (G.1.1 103) (fun j => xs.getD j none) (fun j => ys.getD j none) (by rw [c1, c3]; exact hr.1)).trans ?_
    congr 1
    funext j
    rw [cpyG_get hr.1 hr.2.1, c1, c2, c3, va_cpy]
    first | done | (split <;> rfl)
  rw [e1] at X' step
  have hl9 : a < H.size := (Array.getElem?_eq_some_iff.mp hc1).1
  generalize hCC : vp_cell (G.1.1 103) (ys.length, .inr (.inr (.inr (.inr (fun j => (cpyG xs ys sp dp w).getD j none))))) = CC at X' step
  have hheap : ((T.setVm vm').setCell a CC).heap = H.setIfInBounds a CC := by rw [← hT]; rfl
  have oq : ∀ q : Nat, q ≠ a → (H.setIfInBounds a CC)[q]? = H[q]? := fun q hq => by simp [Array.getElem?_setIfInBounds, Ne.symm hq]
  obtain ⟨t, a1, b1⟩ := kk _ _ (by show (H.setIfInBounds a CC)[a]? = some _; rw [cpyG_len hr.1 hr.2.1, hCC]; simp [Array.getElem?_setIfInBounds, hl9]) (by simp) oq ⟨by simp; exact hS.1, fun q g1 g2 => by
      rw [oq q (fun e => g2 (by rw [e]; exact hA))]
      exact hS.2.1 q g1 g2, fun q hq => by
      rcases List.mem_append.mp hq with h | h
      · exact hS.2.2 q h
      · obtain ⟨z, -, hz⟩ := List.mem_map.mp h
        rw [← hz]
        exact hA⟩ _ hheap X'
  exact ⟨t, step t a1, b1⟩
/-- bytes copied, all other cells as they were -/
theorem z_copyC (cx : zC p s m args meth c cc own nL ret G H0) {b a index : Nat} {xs ys : List Int} {sp dp w : Nat} {z1 z2 z3 : Int} {lv : List (Nat × Value)} (h : Sb G H b xs) (h2 : Ai G H a 100 ys) (hA : A a) (hS : va_S A H0 H locs) (hch : chs xs) (hz : z1 = (sp : Int) ∧ z2 = (dp : Int) ∧ z3 = (w : Int)) (hr : sp + w ≤ xs.length ∧ dp + w ≤ ys.length ∧ xs.length ≤ 1000000 ∧ ys.length ≤ 1000000) (hlink : Cond.methodLink own index ⟨"java/lang/System", "arraycopy", "(Ljava/lang/Object;ILjava/lang/Object;II)V"⟩ ∈ lw_all) (hl : lv_has ls nL lv) (hcat : (rest.map fun v => v.category).sum ≤ 8) (hR : 1 ≤ F ∧ 60 ≤ Lw) (d : decode cc pc = .ok (.invokestatic index, 3))
    (kk : ∀ (H1 : Heap) (locs1 : List Loc), Ai G H1 a 100 (cpyL xs ys sp dp w) → H1.size = H.size → (∀ q : Nat, q ≠ a → H1[q]? = H[q]?) → va_S A H0 H1 locs1 → W p l e ⟨F, mc, ms, Lw⟩ s m args below meth c H1 locs1 k n Q (F0 m (pc + 3) ls rest)) : W p l e ⟨F, mc, ms, Lw⟩ s m args below meth c H locs k n Q (F0 m pc ls (.int (iI z3) :: .int (iI z2) :: .ref a :: .int (iI z1) :: .ref b :: rest)) := by
  obtain ⟨rfl, rfl, rfl⟩ := hz
  have c1 : (iI (sp : Int)).toNatClampNeg = sp := iI_clamp (by omega)
  have c2 : (iI (dp : Int)).toNatClampNeg = dp := iI_clamp (by omega)
  have c3 : (iI (w : Int)).toNatClampNeg = w := iI_clamp (by omega)
  have ng : ∀ i : Nat, i < 2147483648 → ¬ iI (i : Int) < 0 := fun i hi q => by
    rw [iI_0, iI_lt (by omega) (by omega)] at q
    omega
  have tI : ∀ i : Nat, i < 2147483648 → (iI (i : Int)).toInt = (i : Int) := fun i hi => iI_toInt (by omega)
  intro T hT X
  obtain ⟨scr, hs1, hs2, hs3, hs4, -, hs5, -⟩ := va_T.moved cx.kk.2.alike h
  obtain ⟨hs6, k0, hk0, cm0, hkk0⟩ := hs2
  have hc1 : H[a]? = some (vp_cell (G.1.1 100) (ys.length, .inl (fun j => iI (ys.getD j 0)))) := h2
  obtain ⟨-, k1, hk1, cm1, hkk1⟩ := (cx.arr (t0 := 0) rfl).1 ys.length (fun j => .int (iI (ys.getD j 0)))
  obtain ⟨vm', X', step⟩ := X.arraycopy cx.1 cx.wn (cx.ts _ hlink) (cx.ts _ q244) (cx.ts _ q243) (cx.ts _ q47) (src := b) (dst := a) (cs := scr) (cd := vp_cell (G.1.1 100) (ys.length, .inl (fun j => iI (ys.getD j 0)))) (srcPos := iI (sp : Int)) (destPos := iI (dp : Int)) (n := iI (w : Int)) (by rw [hT]; exact hs1) (by rw [hT]; exact hc1)
    hs6 (fun _ h => by cases h) hs3 (fun h => by cases h) hk0 hk1 hkk0 hkk1 (by simp [refKind]) (ng sp (by omega)) (ng dp (by omega)) (ng w (by omega))
    (by rw [tI sp (by omega), tI w (by omega)]; omega)
    (by rw [tI dp (by omega), tI w (by omega)]; show ¬ _ > ((arrV (G.1.1 100) ys.length (fun j => .int (iI (ys.getD j 0)))).slots.size : Int); rw [arrV_size]; omega)
    (fun vm₁ _ i hi => by
      rw [c3] at hi
      rw [c1]
      have e : scr.slots.getD (sp + i) .null = .int (iI (xs.getD (sp + i) 0)) := by
        rw [Array.getD_eq_getD_getElem?, hs5 _ (by omega)]
        rfl
      have hlt : sp + i < xs.length := by omega
      have h9 := hch _ (List.getElem_mem hlt)
      have h8 : xs.getD (sp + i) 0 = xs[sp + i] := by rw [List.getD_eq_getElem?_getD, List.getElem?_eq_getElem hlt]; rfl
      have h7 := fin256 (q := fun j => j < 128 → fits .byte (.int (iI (j : Int))) = true) (by decide +kernel) (z := xs[sp + i]) (by omega) (by omega)
      rw [Int.toNat_of_nonneg h9.1] at h7
      refine ⟨?_, ?_⟩
      · rw [e, h8]
        exact h7
      · rw [e]
        exact trivial)
    (g := F0 m pc ls (.int (iI (w : Int)) :: .int (iI (dp : Int)) :: .ref a :: .int (iI (sp : Int)) :: .ref b :: rest)) rfl (by rw [cx.2.2.1]; exact hl.1) (rest := rest) rfl (by rw [cx.2.1]; exact d) hR.1 (by have := hR.2; have h9 : nativeFrameWords "java/lang/System" "arraycopy" 5 ≤ 40 := (by decide +kernel); show 2 * 0 + _ + _ ≤ Lw; omega)
  have e1 : copied scr (vp_cell (G.1.1 100) (ys.length, .inl (fun j => iI (ys.getD j 0)))) (iI (sp : Int)) (iI (dp : Int)) (iI (w : Int)) = vp_cell (G.1.1 100) (ys.length, .inl (fun j => iI ((cpyL xs ys sp dp w).getD j 0))) := by
    rw [vp_cell_i, vp_cell_i]
    refine (va_copiedX (fun z => .int z) scr (G.1.1 100) (n0 := xs.length) (fun j => iI (xs.getD j 0)) (fun j => iI (ys.getD j 0)) hs5 (by rw [c1, c3]; exact hr.1)).trans ?_
    congr 1
    funext j
    rw [cpyL_get hr.1 hr.2.1, c1, c2, c3, va_cpy]
    split <;> rfl
  rw [e1] at X' step
  have hl9 : a < H.size := (Array.getElem?_eq_some_iff.mp hc1).1
  generalize hCC : vp_cell (G.1.1 100) (ys.length, .inl (fun j => iI ((cpyL xs ys sp dp w).getD j 0))) = CC at X' step
  have hheap : ((T.setVm vm').setCell a CC).heap = H.setIfInBounds a CC := by rw [← hT]; rfl
  have oq : ∀ q : Nat, q ≠ a → (H.setIfInBounds a CC)[q]? = H[q]? := fun q hq => by simp [Array.getElem?_setIfInBounds, Ne.symm hq]
  obtain ⟨t, a1, b1⟩ := kk _ _ (by show (H.setIfInBounds a CC)[a]? = some _; rw [cpyL_len hr.1 hr.2.1, hCC]; simp [Array.getElem?_setIfInBounds, hl9]) (by simp) oq ⟨by simp; exact hS.1, fun q g1 g2 => by
      rw [oq q (fun e => g2 (by rw [e]; exact hA))]
      exact hS.2.1 q g1 g2, fun q hq => by
      rcases List.mem_append.mp hq with h | h
      · exact hS.2.2 q h
      · obtain ⟨z, -, hz⟩ := List.mem_map.mp h
        rw [← hz]
        exact hA⟩ _ hheap X'
  exact ⟨t, step t a1, b1⟩
/-- bytes cloned, at a method's start -/
theorem z_cloneB (cx : zC p s m args meth c cc own nL ret G H0) {a index : Nat} {xs : List Int} {lv : List (Nat × Value)} (h : Ai G H a 100 xs) (hch : chs xs) (hS : va_S A H0 H locs) (hlink : Cond.methodLink own index ⟨"[B", "clone", "()Ljava/lang/Object;"⟩ ∈ lw_all) (hsame : Cond.sameMethod "[B" "java/lang/Object" "clone" "()Ljava/lang/Object;" ∈ lw_all) (hnat : Cond.native ⟨"java/lang/Object", "clone", "()Ljava/lang/Object;"⟩ ∈ lw_all) (hinst : Cond.instanceMethod ⟨"java/lang/Object", "clone", "()Ljava/lang/Object;"⟩ ∈ lw_all) (hsel : Cond.selects "[B" ⟨"[B", "clone", "()Ljava/lang/Object;"⟩ ⟨"java/lang/Object", "clone", "()Ljava/lang/Object;"⟩ ∈ lw_all) (hcl : Cond.castable "[B" "java/lang/Cloneable" ∈ lw_tbl) (hl : lv_has ls nL lv) (hcat : (rest.map fun v => v.category).sum ≤ 8) (hR : 1 ≤ F ∧ 60 ≤ Lw) (hk : k + 1 ≤ mc ∧ n + xs.length ≤ ms) (d : decode cc pc = .ok (.invokevirtual index, 3))
    (kk : ∀ (q : Nat) (H1 : Heap), q = H.size → H0.size ≤ q → Ai G H1 q 100 xs → H1.size = H.size + 1 → Ext H H1 → va_S A H0 H1 locs → W p l e ⟨F, mc, ms, Lw⟩ s m args below meth c H1 locs (k + 1) (n + xs.length) Q (F0 m (pc + 3) ls (.ref q :: rest))) : W p l e ⟨F, mc, ms, Lw⟩ s m args below meth c H locs k n Q (F0 m pc ls (.ref a :: rest)) := by
  intro T hT X
  have hcellT : T.heap[a]? = some (vp_cell (G.1.1 100) (xs.length, .inl (fun j => iI (xs.getD j 0)))) := by rw [hT]; exact h
  have hCl := cx.cast hcl
  have hnm : s.vm.findClass "[B" = some (G.1.1 100) := zId cx.kk (c := 100) rfl
  obtain ⟨c0, t0', f1, f2, f3⟩ := Cond.castable_spec (va_Nw.use (A := args) rfl hCl)
  cases hnm.symm.trans f1
  obtain ⟨-, kA, hkA, comp, hkind⟩ := State.isArrayOf_alike X.warmed.alike ((cx.arr (t0 := 0) rfl).1 0 (fun _ => .null))
  obtain ⟨-, kS, hkS, compS, hkindS⟩ := (cx.arr (t0 := 0) rfl).1 0 (fun _ => .null)
  obtain ⟨vm', X', st⟩ := X.cloneArray cx.1 cx.wn (cx.ts _ hlink) (cx.ts _ hsame) (cx.ts _ hnat) (cx.ts _ hinst) (cx.ts _ hsel) (a := a) (cell := vp_cell (G.1.1 100) (xs.length, .inl (fun j => iI (xs.getD j 0)))) hcellT (fun k h => by cases h) (fun h => by cases h) hnm f2 f3
    (fun i v hv => by
      have hk' : T.vm.classes[G.1.1 100]? = some kA := hkA
      have hv' : (arrV (G.1.1 100) xs.length (fun j => .int (iI (xs.getD j 0)))).slots[i]? = some v := hv
      have hi : i < xs.length := by
        have := (Array.getElem?_eq_some_iff.mp hv').1
        rwa [arrV_size] at this
      rw [arrV_read _ _ hi] at hv'
      cases hv'
      have h9 := hch _ (List.getElem_mem hi)
      have h8 : xs.getD i 0 = xs[i] := by rw [List.getD_eq_getElem?_getD, List.getElem?_eq_getElem hi]; rfl
      have h7 := fin256 (q := fun j => j < 128 → fits .byte (.int (iI (j : Int))) = true) (by decide +kernel) (z := xs[i]) (by omega) (by omega)
      rw [Int.toNat_of_nonneg h9.1, ← h8] at h7
      show T.fitsSlot (G.1.1 100) .none i _ = true
      simpa [State.fitsSlot, State.slotType?, hk', hkind] using h7)
    (g := F0 m pc ls (.ref a :: rest)) rfl (by rw [cx.2.2.1]; exact hl.1) (rest := rest) rfl (by rw [cx.2.1]; exact d) hR.1 (by have := hR.2; show 2 * 0 + _ + 14 ≤ Lw; omega) hk.1 (by show n + (arrV (G.1.1 100) xs.length (fun j => .int (iI (xs.getD j 0)))).slots.size ≤ ms; rw [arrV_size]; exact hk.2) (hloader := Vm.clonesLoader_of_array hkS hkindS)
  have hE : ({ cls := (vp_cell (G.1.1 100) (xs.length, .inl (fun j => iI (xs.getD j 0)))).cls, slots := (vp_cell (G.1.1 100) (xs.length, .inl (fun j => iI (xs.getD j 0)))).slots } : Cell) = vp_cell (G.1.1 100) (xs.length, .inl (fun j => iI (xs.getD j 0))) := rfl
  have hsz : (vp_cell (G.1.1 100) (xs.length, .inl (fun j => iI (xs.getD j 0)))).slots.size = xs.length := arrV_size _ _ _
  rw [hE, hsz] at X'
  rw [hE] at st
  generalize hCC : vp_cell (G.1.1 100) (xs.length, .inl (fun j => iI (xs.getD j 0))) = CC at X' st
  obtain ⟨t, b1, b2⟩ := kk H.size (H.push CC) rfl hS.1 (by show (H.push CC)[H.size]? = some _; rw [hCC]; exact Array.getElem?_push_size) (by rw [Array.size_push]) ⟨by rw [Array.size_push]; omega, fun q hq => by rw [Array.getElem?_push, if_neg (Nat.ne_of_lt hq)]⟩ ⟨Nat.le_trans hS.1 (by rw [Array.size_push]; omega), fun x h1 h2 => by rw [Array.getElem?_push, if_neg (Nat.ne_of_lt (Nat.lt_of_lt_of_le h1 hS.1))]; exact hS.2.1 x h1 h2, hS.2.2⟩ ((T.setVm vm').pushCell CC) (by rw [← hT]; rfl) X'
  refine ⟨t, st t ?_, b2⟩
  rw [hT]
  exact b1
theorem z_ldcM (cx : zC p s m args meth c cc own nL ret G H0) {C : String} {index mi : Nat} (hlink : Cond.classLink own index C ∈ lw_all) (hM : va_Mi C mi G.2) (d : decode cc pc = .ok (.ldc index, 2)) (kk : W p l e ⟨F, mc, ms, Lw⟩ s m args below meth c H locs k n Q (F0 m (pc + 2) ls (.ref mi :: rest))) : W p l e ⟨F, mc, ms, Lw⟩ s m args below meth c H locs k n Q (F0 m pc ls rest) :=
  va_ldcM cx.1 cx.2.1 cx.wn (cx.ts _ hlink) (va_Mi.moved cx.kk.2.alike hM) d kk
theorem z_getC (cx : zC p s m args meth c cc own nL ret G H0) {C : String} {index mi a : Nat} {lv : List (Nat × Value)} (hlink : Cond.methodLink own index ⟨"java/lang/Object", "getClass", "()Ljava/lang/Class;"⟩ ∈ lw_all) (hdecl : Cond.declares ⟨"java/lang/Object", "getClass", "()Ljava/lang/Class;"⟩ ∈ lw_tbl) (hsel : Cond.selects C ⟨"java/lang/Object", "getClass", "()Ljava/lang/Class;"⟩ ⟨"java/lang/Object", "getClass", "()Ljava/lang/Class;"⟩ ∈ lw_all) (hinst : Cond.instanceMethod ⟨"java/lang/Object", "getClass", "()Ljava/lang/Class;"⟩ ∈ lw_all) (hnat : Cond.native ⟨"java/lang/Object", "getClass", "()Ljava/lang/Class;"⟩ ∈ lw_all) (hM : va_Mi C mi G.2) (hr : ∃ cell : Cell, H[a]? = some cell ∧ cell.vm.isStatics = false ∧ s.vm.findClass C = some cell.cls) (hl : lv_has ls nL lv) (hcat : (rest.map fun v => v.category).sum ≤ 8) (hR : 1 ≤ F ∧ 60 ≤ Lw) (d : decode cc pc = .ok (.invokevirtual index, 3)) (kk : W p l e ⟨F, mc, ms, Lw⟩ s m args below meth c H locs k n Q (F0 m (pc + 3) ls (.ref mi :: rest))) : W p l e ⟨F, mc, ms, Lw⟩ s m args below meth c H locs k n Q (F0 m pc ls (.ref a :: rest)) := by
  have hd : (Cond.declares ⟨"java/lang/Object", "getClass", "()Ljava/lang/Class;"⟩).before args s = true := by
    obtain ⟨⟨⟨a9, h9, -⟩, -⟩, hW⟩ := cx.kk
    exact va_Dc.use (va_Dc.moved hW.alike (va_Dc.of (h9 _ hdecl)))
  exact va_getC cx.1 cx.2.1 (cx.2.2.1.trans hl.1.symm) cx.wn (cx.ts _ hlink) hd (cx.ts _ hsel) (cx.ts _ hinst) (cx.ts _ hnat) (va_Mi.moved cx.kk.2.alike hM) hr hR.1 (by have := hR.2; show _ + 14 ≤ Lw; omega) d kk
end ZL6
theorem mi_of {G : zE} (hz : zOK G) {C : String} (h : Cond.isRef (.mirror C) ∈ leafs narrow_1) : ∃ mi, va_Mi C mi G.2 := by
  obtain ⟨a9, -, g2⟩ := leaf_nar hz
  exact va_Mi.of (g2 _ h)
theorem mi_AL {G : zE} (hz : zOK G) : ∃ mi, va_Mi "java/util/ArrayList" mi G.2 := mi_of hz (by decide +kernel)
theorem mi_OA {G : zE} (hz : zOK G) : ∃ mi, va_Mi "[Ljava/lang/Object;" mi G.2 := mi_of hz (by decide +kernel)
theorem zrecA {p : Program} {s : State} {m : MethodId} {args : Array Value} {meth : Method} {c : Code} {cc : ByteArray} {own : String} {nL : Nat} {ret : Option FieldType} {G : zE} {H0 H : Heap} (cx : zC p s m args meth c cc own nL ret G H0) {a : Nat} {rs : List (Option Nat)} (h : Aq G H a 103 rs) : ∃ cell : Cell, H[a]? = some cell ∧ cell.vm.isStatics = false ∧ s.vm.findClass "[Ljava/lang/Object;" = some cell.cls := ⟨_, h, rfl, zId cx.kk (c := 103) rfl⟩
/-- a list of strings -/
def LSt (G : zE) (P : Nat → Prop) (H : Heap) (a : Nat) (xs : List (List Int)) : Prop := ∃ (ed : Nat) (rs : List Nat) (cap : Nat) (mz : Int), P a ∧ Ob G H a 8 [.int (iI mz), .ref ed, .int (iI (rs.length : Int))] ∧ EDok G H ed rs cap ∧ (ed = e0 G ∨ P ed) ∧ (rs.length = xs.length ∧ cap ≤ 100000) ∧ ∀ (i r : Nat) (x : List Int), rs[i]? = some r → xs[i]? = some x → St G P H r x
theorem e0_lt {G : zE} (hz : zOK G) : e0 G < G.2.heap.size := by
  obtain ⟨cell, h1, -⟩ := (e0_ok hz).2
  exact (Array.getElem?_eq_some_iff.mp h1).1
theorem EDok.kp {G : zE} {P P' : Nat → Prop} {H H' : Heap} {ed cap : Nat} {rs : List Nat} (hz : zOK G) (h : EDok G H ed rs cap) (hp : ed = e0 G ∨ P ed) (hk : Kp P H P' H') : EDok G H' ed rs cap ∧ (ed = e0 G ∨ P' ed) := by
  rcases h with h | ⟨h1, h2, h3, h4⟩
  · exact ⟨Or.inl h, Or.inl h.2.1⟩
  · have := e0_lt hz
    rcases hp with hp | hp
    · omega
    · exact ⟨Or.inr ⟨h1, h2, h3, h4.kp hp hk⟩, Or.inr (hk ed h4.lt hp).1⟩
theorem LSt.kp {G : zE} {P P' : Nat → Prop} {H H' : Heap} {a : Nat} {xs : List (List Int)} (hz : zOK G) (h : LSt G P H a xs) (hk : Kp P H P' H') : LSt G P' H' a xs := by
  obtain ⟨ed, rs, cap, mz, h1, h2, h3, h4, h5, h6⟩ := h
  have h7 := h3.kp hz h4 hk
  exact ⟨ed, rs, cap, mz, (hk a h2.lt h1).1, h2.kp h1 hk, h7.1, h7.2, h5, fun i r x hr hx => (h6 i r x hr hx).kp hk⟩
theorem LSt.ext {G : zE} {P : Nat → Prop} {H H' : Heap} {a : Nat} {xs : List (List Int)} (hz : zOK G) (h : LSt G P H a xs) (e : Ext H H') : LSt G P H' a xs := h.kp hz (Kp.ext e)
