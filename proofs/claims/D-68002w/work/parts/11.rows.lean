/-! ===== rows of rows ===== -/
/-- P': what was in P stays, as it was -/
def Kp (P : Nat → Prop) (H : Heap) (P' : Nat → Prop) (H' : Heap) : Prop := ∀ q : Nat, q < H.size → P q → P' q ∧ H'[q]? = H[q]?
theorem Kp.ext {P : Nat → Prop} {H H' : Heap} (h : Ext H H') : Kp P H P H' := fun q hq hp => ⟨hp, h.2 q hq⟩
theorem Kp.weak {P P' : Nat → Prop} {H : Heap} (h : ∀ q : Nat, q < H.size → P q → P' q) : Kp P H P' H := fun q hq hp => ⟨h q hq hp, rfl⟩
theorem Ai.kp {G : zE} {P P' : Nat → Prop} {H H' : Heap} {a k : Nat} {xs : List Int} (h : Ai G H a k xs) (hp : P a) (hk : Kp P H P' H') : Ai G H' a k xs := h.kept (hk a h.lt hp).2
theorem Aq.kp {G : zE} {P P' : Nat → Prop} {H H' : Heap} {a k : Nat} {xs : List (Option Nat)} (h : Aq G H a k xs) (hp : P a) (hk : Kp P H P' H') : Aq G H' a k xs := h.kept (hk a h.lt hp).2
theorem Ob.kp {G : zE} {P P' : Nat → Prop} {H H' : Heap} {a k : Nat} {vs : List Value} (h : Ob G H a k vs) (hp : P a) (hk : Kp P H P' H') : Ob G H' a k vs := h.kept (hk a h.lt hp).2
/-- a row, or null -/
def Orw (G : zE) (P : Nat → Prop) (H : Heap) (r : Option Nat) (v : Option (List Int)) : Prop := match r, v with
  | none, none => True
  | some a, some xs => P a ∧ Ai G H a 101 xs
  | _, _ => False
theorem Orw.kp {G : zE} {P P' : Nat → Prop} {H H' : Heap} {r : Option Nat} {v : Option (List Int)} (h : Orw G P H r v) (hk : Kp P H P' H') : Orw G P' H' r v := by
  cases r <;> cases v <;> simp only [Orw] at h ⊢
  exact ⟨(hk _ h.2.lt h.1).1, h.2.kp h.1 hk⟩
theorem Orw.s {G : zE} {P : Nat → Prop} {H : Heap} {r : Option Nat} {xs : List Int} (h : Orw G P H r (some xs)) : ∃ a, r = some a ∧ P a ∧ Ai G H a 101 xs := by
  cases r with
  | none => exact h.elim
  | some a => exact ⟨a, rfl, h.1, h.2⟩
theorem Orw.n {G : zE} {P : Nat → Prop} {H : Heap} {r : Option Nat} (h : Orw G P H r none) : r = none := by
  cases r with
  | none => rfl
  | some a => exact h.elim
/-- an array of rows (null among them) -/
def Rq (G : zE) (P : Nat → Prop) (H : Heap) (a : Nat) (vs : List (Option (List Int))) : Prop := P a ∧ ∃ rs : List (Option Nat), Aq G H a 105 rs ∧ rs.length = vs.length ∧ ∀ (i : Nat) (r : Option Nat) (v : Option (List Int)), rs[i]? = some r → vs[i]? = some v → Orw G P H r v
theorem Rq.kp {G : zE} {P P' : Nat → Prop} {H H' : Heap} {a : Nat} {vs : List (Option (List Int))} (h : Rq G P H a vs) (hk : Kp P H P' H') : Rq G P' H' a vs := by
  obtain ⟨hp, rs, h1, h2, h3⟩ := h
  exact ⟨(hk a h1.lt hp).1, rs, h1.kp hp hk, h2, fun i r v hr hv => (h3 i r v hr hv).kp hk⟩
theorem Rq.ext {G : zE} {P : Nat → Prop} {H H' : Heap} {a : Nat} {vs : List (Option (List Int))} (h : Rq G P H a vs) (e : Ext H H') : Rq G P H' a vs := h.kp (Kp.ext e)
theorem zArrAt {G : zE} {s : State} (hK : KK G s) : ∃ (kA : Class), s.vm.classes[G.1.1 105]? = some kA ∧ kA.kind = .array (G.1.1 101) (.array .int) := by
  obtain ⟨⟨⟨a9, h9, -⟩, hK0⟩, hW⟩ := hK
  obtain ⟨comp, c, k, h1, h2, h3, h4, h5⟩ := arrayOverA_spec (h9 _ q1243)
  have e1 : c = G.1.1 105 := Option.some.inj (h5.symm.trans (hK0.2 5 _ rfl).2)
  have e2 : comp = G.1.1 101 := Option.some.inj (h1.symm.trans (hK0.2 1 _ rfl).2)
  subst e1; subst e2
  obtain ⟨k', hk', he⟩ := hW.alike.2.2 _ _ h3
  exact ⟨k', hk', by rw [he]; exact h4⟩
section ZR2
variable {p : Program} {l : Launch} {e : Env} {F Lw mc ms : Nat} {s : State} {m : MethodId} {args : Array Value} {below : List Frame} {meth : Method} {c : Code} {H : Heap} {locs : List Loc} {k n : Nat} {Q : State → Prop}
variable {cc : ByteArray} {pc : Nat} {ls : Array Slot} {rest : List Value} {own : String} {nL : Nat} {ret : Option FieldType} {G : zE} {H0 : Heap} {A : Nat → Prop}
theorem z_newR (cx : zC p s m args meth c cc own nL ret G H0) (hS : va_S A H0 H locs) {index : Nat} (hcl : Cond.classLink own index "[I" ∈ lw_all) {z : Int} (N : Nat) (hz : z = (N : Int) ∧ N ≤ 100000) (hk : k + 1 ≤ mc ∧ n + N ≤ ms) (d : decode cc pc = .ok (.anewarray index, 3))
    (kk : ∀ (q : Nat) (H1 : Heap), q = H.size → H0.size ≤ q → Aq G H1 q 105 (List.replicate N none) → H1.size = H.size + 1 → Ext H H1 → va_S A H0 H1 locs → W p l e ⟨F, mc, ms, Lw⟩ s m args below meth c H1 locs (k + 1) (n + N) Q (F0 m (pc + 3) ls (.ref q :: rest))) : W p l e ⟨F, mc, ms, Lw⟩ s m args below meth c H locs k n Q (F0 m pc ls (.int (iI z) :: rest)) := by
  obtain ⟨rfl, hN⟩ := hz
  have hover : (Cond.arrayOver (.array .int)).before args s = true := by
    obtain ⟨⟨⟨a9, h9, -⟩, hK0⟩, hW⟩ := cx.kk
    obtain ⟨comp, c, k, h1, h2, h3, h4, h5⟩ := arrayOverA_spec (h9 _ q1243)
    have hvm := hW.alike
    obtain ⟨k', hk', he⟩ := hvm.2.2 _ _ h3
    have hi : (s.vm.classes.findIdx? fun (x : Class) => match x.kind with | .array component _ => component == comp | _ => false) = some c := by
      rw [hvm.findIdx?_eq _ (fun _ => rfl)]
      exact h2
    have hkind : k'.kind = .array comp (.array .int) := by rw [he]; exact h4
    have f1 : s.vm.findClass (FieldType.array .int).toString = some comp := by rw [hvm.findClass]; exact h1
    have f2 : s.vm.findClass ("[" ++ (FieldType.array .int).toString) = some c := by rw [hvm.findClass]; exact h5
    unfold Cond.before Cond.holds
    simp only [Cond.value]
    rw [f1, Option.bind_some]
    refine (congrArg (fun o : Option Nat => (o.bind (fun c => (s.vm.classes[c]?).map fun (k : Class) => match k.kind with | .array _ ty => decide (ty = FieldType.array .int) && decide (s.vm.findClass ("[" ++ (FieldType.array .int).toString) = some c) | _ => false) == some true)) hi).trans ?_
    simp [hk', hkind, f2]
  refine W.anewA (t := .int) cx.1 cx.2.1 cx.wn (cx.ts _ hcl) hover rfl d rfl (n := iI (N : Int)) (by rw [← iI_nI]; exact nI_pos (by omega)) (by rw [iI_clamp (by omega)]; omega) hk.1 (by rw [iI_clamp (by omega)]; exact hk.2) fun cA kA comp f1 f2 f3 f4 => ?_
  rw [iI_clamp (by omega)]
  have hc : cA = G.1.1 105 := Option.some.inj (f1.symm.trans (cx.arr (t0 := 5) rfl).2)
  subst hc
  generalize hH1 : H.push ({ cls := G.1.1 105, slots := Array.replicate N .null, vm := .none } : Cell) = H1
  have z1 : H1.size = H.size + 1 := by rw [← hH1, Array.size_push]
  have e1 : H1[H.size]? = some (arrV (G.1.1 105) N (fun _ => .null)) := by rw [← hH1, Array.getElem?_push_size, ← arrV_new]
  have o1 : ∀ q : Nat, q < H.size → H1[q]? = H[q]? := fun q hq => by rw [← hH1, Array.getElem?_push, if_neg (Nat.ne_of_lt hq)]
  refine kk H.size H1 rfl hS.1 (Aq.congr (N := N) (f := fun _ => none) e1 (by rw [List.length_replicate]) (fun j hj => by rw [List.length_replicate] at hj; rw [List.getD_eq_getElem?_getD, List.getElem?_replicate, if_pos hj]; rfl)) z1 ⟨by omega, o1⟩ ⟨Nat.le_trans hS.1 (by omega), fun x h1 h2 => (o1 x (Nat.lt_of_lt_of_le h1 hS.1)).trans (hS.2.1 x h1 h2), hS.2.2⟩
/-- a row into an array of rows -/
theorem z_aastR (cx : zC p s m args meth c cc own nL ret G H0) {a v : Nat} {rs : List (Option Nat)} {z : Int} {xs : List Int} (h : Aq G H a 105 rs) (hv : Ai G H v 101 xs) (hA : A a) (hS : va_S A H0 H locs) (i : Nat) (hz : z = (i : Int) ∧ i < rs.length ∧ i < 2147483648) (d : decode cc pc = .ok (.aastore, 1))
    (kk : ∀ (H1 : Heap) (locs1 : List Loc), Aq G H1 a 105 (rs.set i (some v)) → H1.size = H.size → (∀ q : Nat, q ≠ a → H1[q]? = H[q]?) → va_S A H0 H1 locs1 → W p l e ⟨F, mc, ms, Lw⟩ s m args below meth c H1 locs1 k n Q (F0 m (pc + 1) ls rest)) : W p l e ⟨F, mc, ms, Lw⟩ s m args below meth c H locs k n Q (F0 m pc ls (.ref v :: .int (iI z) :: .ref a :: rest)) := by
  refine z_aast (t0 := 5) (ty := .array .int) cx h rfl rfl hA hS (fun comp kA hkA hkind => ?_) i hz d kk
  obtain ⟨kA', h1, h2⟩ := zArrAt cx.kk
  rw [h1] at hkA
  cases hkA
  rw [h2] at hkind
  cases hkind
  obtain ⟨-, k1, hk1, -⟩ := (cx.arr (t0 := 1) rfl).1 xs.length (fun j => .int (iI (xs.getD j 0)))
  exact ⟨_, k1, k1, hv, rfl, hk1, hk1, va_asg _ _⟩
end ZR2
