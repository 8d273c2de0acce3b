/-! ===== cells of different classes lie apart; arrays of objects ===== -/
def zname (c : Nat) : String := match c with
  | 100 => "[B"
  | 101 => "[I"
  | 102 => "[J"
  | 103 => "[Ljava/lang/Object;"
  | 104 => "[LVaryStoreModel$Thing;"
  | 105 => "[[I"
  | c => match zcl[c]? with
    | some q => q.1
    | none => ""
def zok (c : Nat) : Bool := decide (c < 12 ∨ (100 ≤ c ∧ c < 106))
theorem zId {G : zE} {U : State} (hK : KK G U) {c : Nat} (hc : zok c = true) : U.vm.findClass (zname c) = some (G.1.1 c) := by
  have h1 := hK.K.1
  have h2 := hK.K.2
  have hc : c < 12 ∨ (100 ≤ c ∧ c < 106) := of_decide_eq_true hc
  have hcc : c = 0 ∨ c = 1 ∨ c = 2 ∨ c = 3 ∨ c = 4 ∨ c = 5 ∨ c = 6 ∨ c = 7 ∨ c = 8 ∨ c = 9 ∨ c = 10 ∨ c = 11 ∨ c = 100 ∨ c = 101 ∨ c = 102 ∨ c = 103 ∨ c = 104 ∨ c = 105 := by omega
  rcases hcc with q | q | q | q | q | q | q | q | q | q | q | q | q | q | q | q | q | q <;> subst q
  · exact (h1 0 _ rfl).2.1
  · exact (h1 1 _ rfl).2.1
  · exact (h1 2 _ rfl).2.1
  · exact (h1 3 _ rfl).2.1
  · exact (h1 4 _ rfl).2.1
  · exact (h1 5 _ rfl).2.1
  · exact (h1 6 _ rfl).2.1
  · exact (h1 7 _ rfl).2.1
  · exact (h1 8 _ rfl).2.1
  · exact (h1 9 _ rfl).2.1
  · exact (h1 10 _ rfl).2.1
  · exact (h1 11 _ rfl).2.1
  · exact (h2 0 _ rfl).2
  · exact (h2 1 _ rfl).2
  · exact (h2 2 _ rfl).2
  · obtain ⟨_, _, -, -, -, h⟩ := (h2 3 _ rfl).2; exact h
  · obtain ⟨_, _, -, -, -, h⟩ := (h2 4 _ rfl).2; exact h
  · exact (h2 5 _ rfl).2
def Cl (G : zE) (H : Heap) (a c : Nat) : Prop := ∃ cell : Cell, H[a]? = some cell ∧ cell.cls = G.1.1 c
theorem Ob.cl {G : zE} {H : Heap} {a ci : Nat} {vs : List Value} (h : Ob G H a ci vs) : Cl G H a ci := by
  obtain ⟨r, h1, cell, q1, q2, q3, q4⟩ := h
  exact ⟨cell, q1, q2⟩
theorem Ai.cl {G : zE} {H : Heap} {a k : Nat} {xs : List Int} (h : Ai G H a k xs) : Cl G H a k := ⟨_, h, rfl⟩
theorem Aq.cl {G : zE} {H : Heap} {a k : Nat} {rs : List (Option Nat)} (h : Aq G H a k rs) : Cl G H a k := ⟨_, h, rfl⟩
theorem Cl.lt {G : zE} {H : Heap} {a c : Nat} (h : Cl G H a c) : a < H.size := by
  obtain ⟨cell, h, -⟩ := h
  exact (Array.getElem?_eq_some_iff.mp h).1
theorem Cl.ne {G : zE} {U : State} {H : Heap} {a b c d : Nat} (h1 : Cl G H a c) (h2 : Cl G H b d) (hK : KK G U) (hne : (zok c && zok d && decide (zname c ≠ zname d)) = true) : a ≠ b := by
  intro e
  subst e
  obtain ⟨c1, g1, g2⟩ := h1
  obtain ⟨c2, g3, g4⟩ := h2
  rw [g1] at g3
  cases g3
  simp only [Bool.and_eq_true, decide_eq_true_eq] at hne
  obtain ⟨⟨n1, n2⟩, n3⟩ := hne
  exact zcls_ne (G := G) (zId hK n1) (zId hK n2) n3 (g2.symm.trans g4)
section ZT
variable {p : Program} {l : Launch} {e : Env} {F Lw mc ms : Nat} {s : State} {m : MethodId} {args : Array Value} {below : List Frame} {meth : Method} {c : Code} {H : Heap} {locs : List Loc} {k n : Nat} {Q : State → Prop}
variable {cc : ByteArray} {pc : Nat} {ls : Array Slot} {rest : List Value} {own : String} {nL : Nat} {ret : Option FieldType} {G : zE} {H0 : Heap} {A : Nat → Prop}
theorem z_anewO (cx : zC p s m args meth c cc own nL ret G H0) (hS : va_S A H0 H locs) {index : Nat} {C : String} (t0 j : Nat) (ht : (zty G.1)[t0]? = some (G.1.1 j, .object C)) (hov : Cond.arrayOver (.object C) ∈ lw_tbl) (hcl : Cond.classLink own index C ∈ lw_all) {z : Int} (N : Nat) (hz : z = (N : Int) ∧ N ≤ 100000) (hk : k + 1 ≤ mc ∧ n + N ≤ ms) (d : decode cc pc = .ok (.anewarray index, 3))
    (kk : ∀ (q : Nat) (H1 : Heap), q = H.size → H0.size ≤ q → Aq G H1 q j (List.replicate N none) → H1.size = H.size + 1 → Ext H H1 → va_S A H0 H1 locs → W p l e ⟨F, mc, ms, Lw⟩ s m args below meth c H1 locs (k + 1) (n + N) Q (F0 m (pc + 3) ls (.ref q :: rest))) : W p l e ⟨F, mc, ms, Lw⟩ s m args below meth c H locs k n Q (F0 m pc ls (.int (iI z) :: rest)) := by
  obtain ⟨rfl, hN⟩ := hz
  have hover : va_AO C s := by
    obtain ⟨⟨⟨a9, h9, -⟩, hK0⟩, hW⟩ := cx.kk
    exact va_AO.moved hW.alike (va_AO.of (h9 _ hov))
  refine W.anew cx.1 cx.2.1 cx.wn (cx.ts _ hcl) (va_AO.use hover) rfl d rfl (n := iI (N : Int)) (by rw [← iI_nI]; exact nI_pos (by omega)) (by rw [iI_clamp (by omega)]; omega) hk.1 (by rw [iI_clamp (by omega)]; exact hk.2) fun cA kA comp f1 f2 f3 f4 => ?_
  rw [iI_clamp (by omega)]
  obtain ⟨_, _, -, -, -, hnm⟩ := (cx.arr ht).2
  have hc : cA = G.1.1 j := Option.some.inj (f1.symm.trans hnm)
  subst hc
  generalize hH1 : H.push ({ cls := G.1.1 j, slots := Array.replicate N .null, vm := .none } : Cell) = H1
  have z1 : H1.size = H.size + 1 := by rw [← hH1, Array.size_push]
  have e1 : H1[H.size]? = some (arrV (G.1.1 j) N (fun _ => .null)) := by rw [← hH1, Array.getElem?_push_size, ← arrV_new]
  have o1 : ∀ q : Nat, q < H.size → H1[q]? = H[q]? := fun q hq => by rw [← hH1, Array.getElem?_push, if_neg (Nat.ne_of_lt hq)]
  refine kk H.size H1 rfl hS.1 (Aq.congr (N := N) (f := fun _ => none) e1 (by rw [List.length_replicate]) (fun j hj => by rw [List.length_replicate] at hj; rw [List.getD_eq_getElem?_getD, List.getElem?_replicate, if_pos hj]; rfl)) z1 ⟨by omega, o1⟩ ⟨Nat.le_trans hS.1 (by omega), fun x h1 h2 => (o1 x (Nat.lt_of_lt_of_le h1 hS.1)).trans (hS.2.1 x h1 h2), hS.2.2⟩
theorem z_newT (cx : zC p s m args meth c cc own nL ret G H0) (hS : va_S A H0 H locs) {index : Nat} (hcl : Cond.classLink own index "VaryStoreModel$Thing" ∈ lw_all) {z : Int} (N : Nat) (hz : z = (N : Int) ∧ N ≤ 100000) (hk : k + 1 ≤ mc ∧ n + N ≤ ms) (d : decode cc pc = .ok (.anewarray index, 3))
    (kk : ∀ (q : Nat) (H1 : Heap), q = H.size → H0.size ≤ q → Aq G H1 q 104 (List.replicate N none) → H1.size = H.size + 1 → Ext H H1 → va_S A H0 H1 locs → W p l e ⟨F, mc, ms, Lw⟩ s m args below meth c H1 locs (k + 1) (n + N) Q (F0 m (pc + 3) ls (.ref q :: rest))) : W p l e ⟨F, mc, ms, Lw⟩ s m args below meth c H locs k n Q (F0 m pc ls (.int (iI z) :: rest)) := z_anewO cx hS 4 104 rfl q1154 hcl N hz hk d kk
theorem z_newO (cx : zC p s m args meth c cc own nL ret G H0) (hS : va_S A H0 H locs) {index : Nat} (hcl : Cond.classLink own index "java/lang/Object" ∈ lw_all) {z : Int} (N : Nat) (hz : z = (N : Int) ∧ N ≤ 100000) (hk : k + 1 ≤ mc ∧ n + N ≤ ms) (d : decode cc pc = .ok (.anewarray index, 3))
    (kk : ∀ (q : Nat) (H1 : Heap), q = H.size → H0.size ≤ q → Aq G H1 q 103 (List.replicate N none) → H1.size = H.size + 1 → Ext H H1 → va_S A H0 H1 locs → W p l e ⟨F, mc, ms, Lw⟩ s m args below meth c H1 locs (k + 1) (n + N) Q (F0 m (pc + 3) ls (.ref q :: rest))) : W p l e ⟨F, mc, ms, Lw⟩ s m args below meth c H locs k n Q (F0 m pc ls (.int (iI z) :: rest)) := z_anewO cx hS 3 103 rfl q541 hcl N hz hk d kk
/-- an object of a known class into an array of its class -/
theorem z_aastT (cx : zC p s m args meth c cc own nL ret G H0) {a v : Nat} {rs : List (Option Nat)} {z : Int} {vs : List Value} (h : Aq G H a 104 rs) (hv : Ob G H v 7 vs) (hA : A a) (hS : va_S A H0 H locs) (i : Nat) (hz : z = (i : Int) ∧ i < rs.length ∧ i < 2147483648) (d : decode cc pc = .ok (.aastore, 1))
    (kk : ∀ (H1 : Heap) (locs1 : List Loc), Aq G H1 a 104 (rs.set i (some v)) → H1.size = H.size → (∀ q : Nat, q ≠ a → H1[q]? = H[q]?) → va_S A H0 H1 locs1 → W p l e ⟨F, mc, ms, Lw⟩ s m args below meth c H1 locs1 k n Q (F0 m (pc + 1) ls rest)) : W p l e ⟨F, mc, ms, Lw⟩ s m args below meth c H locs k n Q (F0 m pc ls (.ref v :: .int (iI z) :: .ref a :: rest)) := by
  refine z_aast (t0 := 4) (ty := .object "VaryStoreModel$Thing") cx h rfl rfl hA hS (fun comp kA hkA hkind => ?_) i hz d kk
  obtain ⟨kA', comp', h1, h2, h3, -⟩ := (cx.arr (t0 := 4) rfl).2
  rw [h1] at hkA
  cases hkA
  rw [h2] at hkind
  cases hkind
  have hcls := (cx.K.1 7 _ rfl).2
  have e1 : comp = G.1.1 7 := Option.some.inj (h3.symm.trans hcls.1)
  obtain ⟨k7, hk7, -⟩ := hcls.2
  obtain ⟨r, g1, cell, q1, q2, q3, q4⟩ := hv
  exact ⟨cell, k7, k7, q1, by rw [q3]; rfl, by rw [q2]; exact hk7, by rw [e1]; exact hk7, by rw [q2, e1]; exact va_asg _ _⟩
/-- null into an array of objects -/
theorem z_aastN (cx : zC p s m args meth c cc own nL ret G H0) {a j t0 : Nat} {rs : List (Option Nat)} {z : Int} {C : String} (h : Aq G H a j rs) (ht : (zty G.1)[t0]? = some (G.1.1 j, .object C)) (hA : A a) (hS : va_S A H0 H locs) (i : Nat) (hz : z = (i : Int) ∧ i < rs.length ∧ i < 2147483648) (d : decode cc pc = .ok (.aastore, 1))
    (kk : ∀ (H1 : Heap) (locs1 : List Loc), Aq G H1 a j (rs.set i none) → H1.size = H.size → (∀ q : Nat, q ≠ a → H1[q]? = H[q]?) → va_S A H0 H1 locs1 → W p l e ⟨F, mc, ms, Lw⟩ s m args below meth c H1 locs1 k n Q (F0 m (pc + 1) ls rest)) : W p l e ⟨F, mc, ms, Lw⟩ s m args below meth c H locs k n Q (F0 m pc ls (.null :: .int (iI z) :: .ref a :: rest)) := by
  have hin := iI_in hz
  refine va_WaastN (C := C) cx.1 cx.2.1 (cell := vp_cell (G.1.1 j) (rs.length, .inr (.inr (.inr (.inr (fun j => rs.getD j none)))))) h ((cx.arr ht).1 rs.length (fun j => va_rf (rs.getD j none))) (fun h => by cases h) (by show ¬ (iI z < 0 ∨ (arrV _ _ _).slots.size ≤ _); rw [arrV_size]; exact hin) rfl rfl d fun H1 e1 z1 oq => ?_
  refine kk H1 _ (Aq.setOf ?_) z1 oq (hS.put z1 oq hA)
  show H1[a]? = some (vp_cell _ _)
  rw [e1, vp_cell_q, vp_cell_q, arrV_store, iI_cl hz]
  congr 2
  funext q
  by_cases hq : q = i
  · subst hq
    simp [updV, va_up, va_rf]
  · simp [updV, va_up, hq]
end ZT
def rmi {A : Type} (xs : List A) (i : Nat) : List A := xs.take i ++ xs.drop (i + 1)
theorem rmi_map {A B : Type} (f : A → B) (xs : List A) (i : Nat) : (rmi xs i).map f = rmi (xs.map f) i := by unfold rmi; rw [List.map_append, List.map_take, List.map_drop]
theorem rmi_len {A : Type} {xs : List A} {i : Nat} (h : i < xs.length) : (rmi xs i).length = xs.length - 1 := by unfold rmi; rw [List.length_append, List.length_take, List.length_drop]; omega
theorem rmi_mem {A : Type} {xs : List A} {i : Nat} {x : A} (h : x ∈ rmi xs i) : x ∈ xs := by
  unfold rmi at h
  rcases List.mem_append.mp h with q | q
  · exact List.mem_of_mem_take q
  · exact List.mem_of_mem_drop q
def shf {A : Type} (bs : List A) (i k : Nat) : List A := bs.take i ++ (bs.drop (i + 1)).take (k - i) ++ bs.drop k
theorem shf_0 {A : Type} (bs : List A) (i : Nat) : shf bs i i = bs := by unfold shf; rw [Nat.sub_self, List.take_zero, List.append_nil, List.take_append_drop]
theorem shf_pre {A : Type} {bs : List A} {i k : Nat} (hi : i ≤ k) (hk : k < bs.length) : (bs.take i ++ (bs.drop (i + 1)).take (k - i)).length = k := by
  rw [List.length_append, List.length_take, List.length_take, List.length_drop]; omega
theorem shf_len {A : Type} {bs : List A} {i k : Nat} (hi : i ≤ k) (hk : k < bs.length) : (shf bs i k).length = bs.length := by
  unfold shf
  rw [List.length_append, shf_pre hi hk, List.length_drop]; omega
theorem shf_get {A : Type} {bs pad : List A} {i k : Nat} (hi : i ≤ k) (hk : k + 1 < bs.length) : (shf bs i k ++ pad)[k + 1]? = bs[k + 1]? := by
  unfold shf
  rw [List.append_assoc, List.getElem?_append_right (by rw [shf_pre hi (by omega)]; omega), shf_pre hi (by omega), show k + 1 - k = 1 by omega, List.getElem?_append_left (by rw [List.length_drop]; omega), List.getElem?_drop]
theorem shf_set {A : Type} {bs pad : List A} {i k : Nat} {y : A} (hi : i ≤ k) (hy : bs[k + 1]? = some y) : (shf bs i k ++ pad).set k y = shf bs i (k + 1) ++ pad := by
  obtain ⟨h1, h2⟩ := List.getElem?_eq_some_iff.mp hy
  unfold shf
  rw [List.append_assoc, List.set_append_right _ _ (by rw [shf_pre hi (by omega)]; omega), shf_pre hi (by omega), Nat.sub_self, List.drop_eq_getElem_cons (show k < bs.length by omega), List.cons_append, List.set_cons_zero]
  have e1 : (bs.drop (i + 1)).take (k + 1 - i) = (bs.drop (i + 1)).take (k - i) ++ [y] := by
    rw [show k + 1 - i = (k - i) + 1 by omega, List.take_succ_eq_append_getElem (by rw [List.length_drop]; omega), List.getElem_drop]
    congr 2
    rw [← h2]
    congr 1
    omega
  rw [e1]
  simp [List.append_assoc]
theorem shf_end {A : Type} {bs pad : List A} {i k : Nat} {z : A} (hi : i ≤ k) (hk : k + 1 = bs.length) : (shf bs i k ++ pad).set k z = rmi bs i ++ z :: pad := by
  unfold shf rmi
  rw [List.append_assoc, List.set_append_right _ _ (by rw [shf_pre hi (by omega)]; omega), shf_pre hi (by omega), Nat.sub_self, List.drop_eq_getElem_cons (show k < bs.length by omega), List.cons_append, List.set_cons_zero, List.drop_eq_nil_of_le (show bs.length ≤ k + 1 by omega), List.nil_append, List.take_of_length_le (l := bs.drop (i + 1)) (by rw [List.length_drop]; omega)]
