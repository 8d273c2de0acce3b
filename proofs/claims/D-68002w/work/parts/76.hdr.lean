/-! ===== the lines of a text, as an object ===== -/
def lsd (v : List Int) : List Int := (lst v).flatMap (fun x => x ++ [44])
def LiOk (G : zE) (Q : Nat → Prop) (H : Heap) (li : Option Nat) (v : List Int) : Prop := match li with
  | none => True
  | some x => St G Q H x (lsd v)
theorem LiOk.kp {G : zE} {Q Q' : Nat → Prop} {H H1 : Heap} {li : Option Nat} {v : List Int} (h : LiOk G Q H li v) (hk : Kp Q H Q' H1) : LiOk G Q' H1 li v := by
  cases li with
  | none => exact trivial
  | some x => exact St.kp (xs := lsd v) h hk
def Ln (G : zE) (Q : Nat → Prop) (H : Heap) (r : Nat) (t : List Int × List Int) (cb : Bool) : Prop := ∃ (nm vl : Nat) (li : Option Nat), Ob G H r 3 [.ref nm, .ref vl, va_rf li] ∧ St G Q H nm t.1 ∧ St G Q H vl t.2 ∧ LiOk G Q H li t.2 ∧ cb = li.isSome
theorem Ln.kp {G : zE} {Q Q' : Nat → Prop} {H H1 : Heap} {r : Nat} {t : List Int × List Int} {cb : Bool} (h : Ln G Q H r t cb) (hk : Kp Q H Q' H1) (e : H1[r]? = H[r]?) : Ln G Q' H1 r t cb := by
  obtain ⟨nm, vl, li, h1, h2, h3, h4, h5⟩ := h
  exact ⟨nm, vl, li, h1.kept e, h2.kp hk, h3.kp hk, h4.kp hk, h5⟩
theorem Ln.lt {G : zE} {Q : Nat → Prop} {H : Heap} {r : Nat} {t : List Int × List Int} {cb : Bool} (h : Ln G Q H r t cb) : r < H.size := by
  obtain ⟨nm, vl, li, h1, -⟩ := h
  exact h1.lt
theorem Ln.cl {G : zE} {Q : Nat → Prop} {H : Heap} {r : Nat} {t : List Int × List Int} {cb : Bool} (h : Ln G Q H r t cb) : Cl G H r 3 := by
  obtain ⟨nm, vl, li, h1, -⟩ := h
  exact h1.cl
theorem Ln.ext {G : zE} {Q : Nat → Prop} {H H1 : Heap} {r : Nat} {t : List Int × List Int} {cb : Bool} (h : Ln G Q H r t cb) (e : Ext H H1) : Ln G Q H1 r t cb := h.kp (Kp.ext e) (e.2 r h.lt)
theorem Ln.el {G : zE} {U : State} {Q : Nat → Prop} {H : Heap} {r : Nat} {t : List Int × List Int} {cb : Bool} (hK : KK G U) (h : Ln G Q H r t cb) : El G H r := by
  obtain ⟨nm, vl, li, h1, -⟩ := h
  exact El.ob hK h1 rfl q1430
/-- lines at addresses; which of them have their list -/
def LnB (G : zE) (Q : Nat → Prop) (H : Heap) (rs : List Nat) (T : Txt) (cs : List Bool) : Prop := rs.length = T.length ∧ cs.length = T.length ∧ ∀ (i r : Nat) (t : List Int × List Int) (cb : Bool), rs[i]? = some r → T[i]? = some t → cs[i]? = some cb → Ln G Q H r t cb
theorem LnB.at {G : zE} {Q : Nat → Prop} {H : Heap} {rs : List Nat} {T : Txt} {cs : List Bool} (h : LnB G Q H rs T cs) {i r : Nat} (hr : rs[i]? = some r) : ∃ t cb, T[i]? = some t ∧ cs[i]? = some cb ∧ Ln G Q H r t cb := by
  have hi := (List.getElem?_eq_some_iff.mp hr).1
  have h1 : T[i]? = some (T[i]'(by rw [← h.1]; exact hi)) := List.getElem?_eq_getElem _
  have h2 : cs[i]? = some (cs[i]'(by rw [h.2.1, ← h.1]; exact hi)) := List.getElem?_eq_getElem _
  exact ⟨_, _, h1, h2, h.2.2 i r _ _ hr h1 h2⟩
theorem LnB.get {G : zE} {Q : Nat → Prop} {H : Heap} {rs : List Nat} {T : Txt} {cs : List Bool} (h : LnB G Q H rs T cs) {r : Nat} (hr : r ∈ rs) : ∃ t cb, Ln G Q H r t cb := by
  obtain ⟨i, hi, rfl⟩ := List.mem_iff_getElem.mp hr
  obtain ⟨t, cb, -, -, h1⟩ := h.at (List.getElem?_eq_getElem hi)
  exact ⟨t, cb, h1⟩
theorem LnB.ext {G : zE} {Q : Nat → Prop} {H H1 : Heap} {rs : List Nat} {T : Txt} {cs : List Bool} (h : LnB G Q H rs T cs) (e : Ext H H1) : LnB G Q H1 rs T cs := ⟨h.1, h.2.1, fun i r t cb h1 h2 h3 => (h.2.2 i r t cb h1 h2 h3).ext e⟩
theorem LnB.kp {G : zE} {Q Q' : Nat → Prop} {H H1 : Heap} {rs : List Nat} {T : Txt} {cs : List Bool} (h : LnB G Q H rs T cs) (hk : Kp Q H Q' H1) (e : ∀ r ∈ rs, H1[r]? = H[r]?) : LnB G Q' H1 rs T cs := ⟨h.1, h.2.1, fun i r t cb h1 h2 h3 => (h.2.2 i r t cb h1 h2 h3).kp hk (e r (List.mem_of_getElem? h1))⟩
theorem LnB.el {G : zE} {U : State} {Q : Nat → Prop} {H : Heap} {rs : List Nat} {T : Txt} {cs : List Bool} (hK : KK G U) (h : LnB G Q H rs T cs) : ∀ y, y ∈ rs → El G H y := fun y hy => by
  obtain ⟨t, cb, ht⟩ := h.get hy
  exact ht.el hK
/-- a line told anew -/
theorem LnB.set {G : zE} {Q Q' : Nat → Prop} {H H1 : Heap} {rs : List Nat} {T : Txt} {cs : List Bool} {k r : Nat} {t : List Int × List Int} {cb : Bool} (h : LnB G Q H rs T cs) (hr : rs[k]? = some r) (hnd : rs.Nodup) (hk : Kp Q H Q' H1) (e : ∀ q : Nat, q < H.size → q ∈ rs → q ≠ r → H1[q]? = H[q]?) (ht : Ln G Q' H1 r t cb) : LnB G Q' H1 rs (T.set k t) (cs.set k cb) := by
  have hkl := (List.getElem?_eq_some_iff.mp hr).1
  refine ⟨by rw [List.length_set]; exact h.1, by rw [List.length_set, List.length_set]; exact h.2.1, fun i a u c h1 h2 h3 => ?_⟩
  by_cases ei : i = k
  · subst ei
    rw [hr] at h1
    cases h1
    rw [List.getElem?_set_self (by rw [← h.1]; exact hkl)] at h2
    rw [List.getElem?_set_self (by rw [h.2.1, ← h.1]; exact hkl)] at h3
    cases h2; cases h3
    exact ht
  · rw [List.getElem?_set_ne (Ne.symm ei)] at h2 h3
    have h4 := h.2.2 i a u c h1 h2 h3
    exact h4.kp hk (e a h4.lt (List.mem_of_getElem? h1) (nodup_ne hnd hr h1 ei))
theorem LnB.snoc {G : zE} {Q : Nat → Prop} {H : Heap} {rs : List Nat} {T : Txt} {cs : List Bool} {r : Nat} {t : List Int × List Int} {cb : Bool} (h : LnB G Q H rs T cs) (ht : Ln G Q H r t cb) : LnB G Q H (rs ++ [r]) (T ++ [t]) (cs ++ [cb]) := by
  refine ⟨by rw [List.length_append, List.length_append, h.1]; rfl, by rw [List.length_append, List.length_append, h.2.1]; rfl, fun i a u c h1 h2 h3 => ?_⟩
  by_cases hi : i < rs.length
  · rw [List.getElem?_append_left hi] at h1
    rw [List.getElem?_append_left (by rw [← h.1]; exact hi)] at h2
    rw [List.getElem?_append_left (by rw [h.2.1, ← h.1]; exact hi)] at h3
    exact h.2.2 i a u c h1 h2 h3
  · rw [List.getElem?_append_right (by omega)] at h1
    rw [List.getElem?_append_right (by rw [← h.1]; omega)] at h2
    rw [List.getElem?_append_right (by rw [h.2.1, ← h.1]; omega)] at h3
    have e : i - rs.length = 0 := by have := (List.getElem?_eq_some_iff.mp h1).1; simp at this; omega
    rw [e] at h1
    rw [← h.1, e] at h2
    rw [h.2.1, ← h.1, e] at h3
    cases h1; cases h2; cases h3
    exact ht
def hdF (T : Txt) (nm : List Int) : Int := fix1 (fun l => decide (l.1 = nm)) T 0
def hdV (T : Txt) (nm : List Int) : Option (List Int) := if hdF T nm = -1 then none else some (T.getD (hdF T nm).toNat ([], [])).2
def addL (T : Txt) (n v : List Int) : Txt := if hdF T n = -1 then T ++ [(n, v)] else T.set (hdF T n).toNat (n, (T.getD (hdF T n).toNat ([], [])).2 ++ 44 :: v)
def mrg (T : Txt) : Txt := T.foldl (fun M l => addL M l.1 l.2) []
theorem hdF_or (T : Txt) (nm : List Int) : (hdF T nm = -1 ∧ ∀ t ∈ T, t.1 ≠ nm) ∨ ∃ (k : Nat) (t : List Int × List Int), hdF T nm = (k : Int) ∧ T[k]? = some t ∧ t.1 = nm := by
  rcases fix1_or (fun l : List Int × List Int => decide (l.1 = nm)) T 0 with ⟨h1, h2⟩ | ⟨k, t, h1, h2, h3, -⟩
  · exact Or.inl ⟨h1, fun t ht => of_decide_eq_false (h2 t ht)⟩
  · exact Or.inr ⟨k, t, by rw [hdF, h1, Nat.zero_add], h2, of_decide_eq_true h3⟩
theorem hdF_no {T : Txt} {nm : List Int} (h : ∀ t ∈ T, t.1 ≠ nm) : hdF T nm = -1 := fix1_no (fun t ht => decide_eq_false (h t ht))
theorem hdF_rg (T : Txt) (nm : List Int) : -1 ≤ hdF T nm ∧ hdF T nm < (T.length : Int) := by
  have := fix1_rg (fun l : List Int × List Int => decide (l.1 = nm)) T 0
  unfold hdF
  omega
theorem hdV_k {T : Txt} {nm : List Int} {k : Nat} {t : List Int × List Int} (h : hdF T nm = (k : Int)) (ht : T[k]? = some t) : hdV T nm = some t.2 := by
  rw [hdV, h, if_neg (by omega), Int.toNat_natCast, List.getD_eq_getElem?_getD, ht]; rfl
def hdN (T : Txt) : Prop := (T.map (fun q => q.1)).Nodup
theorem hdN_uniq {T : Txt} (h : hdN T) {i j : Nat} {t u : List Int × List Int} (hi : T[i]? = some t) (hj : T[j]? = some u) (he : t.1 = u.1) : i = j := by
  by_cases e : i = j
  · exact e
  · exfalso
    have h1 : (T.map (fun q => q.1))[i]? = some t.1 := by rw [List.getElem?_map, hi]; rfl
    have h2 : (T.map (fun q => q.1))[j]? = some u.1 := by rw [List.getElem?_map, hj]; rfl
    obtain ⟨a1, a2⟩ := List.getElem?_eq_some_iff.mp h1
    obtain ⟨b1, b2⟩ := List.getElem?_eq_some_iff.mp h2
    have hp := List.pairwise_iff_getElem.mp h
    rcases Nat.lt_or_gt_of_ne e with z | z
    · exact hp i j a1 b1 z (a2.trans (he.trans b2.symm))
    · exact hp j i b1 a1 z (b2.trans (he.symm.trans a2.symm))
theorem hdV_at {T : Txt} (hn : hdN T) {k : Nat} {t : List Int × List Int} (h : T[k]? = some t) : hdV T t.1 = some t.2 ∧ hdF T t.1 = (k : Int) := by
  rcases hdF_or T t.1 with ⟨-, h2⟩ | ⟨k', u, h1, h2, h3⟩
  · exact absurd rfl (h2 t (List.mem_of_getElem? h))
  · have := hdN_uniq hn h2 h h3
    subst this
    exact ⟨hdV_k h1 h, h1⟩
theorem hdV_no {T : Txt} {nm : List Int} (h : ∀ t ∈ T, t.1 ≠ nm) : hdV T nm = none := by rw [hdV, if_pos (hdF_no h)]
theorem addL_names (T : Txt) (n v : List Int) : (addL T n v).map (fun q => q.1) = if hdF T n = -1 then T.map (fun q => q.1) ++ [n] else T.map (fun q => q.1) := by
  unfold addL
  rcases hdF_or T n with ⟨h1, -⟩ | ⟨k, t, h1, h2, h3⟩
  · rw [if_pos h1, if_pos h1, List.map_append]; rfl
  · rw [if_neg (by omega), if_neg (by omega), h1, Int.toNat_natCast, List.map_set]
    have hk := (List.getElem?_eq_some_iff.mp h2).1
    refine List.ext_getElem (by rw [List.length_set]) (fun i g1 g2 => ?_)
    rw [List.getElem_set]
    split
    · rename_i e
      subst e
      rw [List.getElem_map]
      have h9 := (List.getElem?_eq_some_iff.mp h2).2
      show n = (T[k]'hk).1
      rw [h9, h3]
    · rfl
theorem addL_N {T : Txt} (hn : hdN T) (n v : List Int) : hdN (addL T n v) := by
  unfold hdN
  rw [addL_names]
  split
  · rename_i h
    rw [List.nodup_append]
    refine ⟨hn, by simp, fun a ha b hb e => ?_⟩
    rcases hdF_or T n with ⟨-, h2⟩ | ⟨k, t, h1, -, -⟩
    · obtain ⟨t, ht, rfl⟩ := List.mem_map.mp ha
      rw [List.mem_singleton] at hb
      exact h2 t ht (e.trans hb)
    · omega
  · exact hn
theorem addL_V {T : Txt} (hn : hdN T) (n v nm : List Int) : hdV (addL T n v) nm = if n = nm then some (jn (hdV T n) v) else hdV T nm := by
  have hA := addL_N hn n v
  rcases hdF_or T n with ⟨h1, h2⟩ | ⟨k, t, h1, h2, h3⟩
  · have e1 : addL T n v = T ++ [(n, v)] := by rw [addL, if_pos h1]
    by_cases e : n = nm
    · subst e
      rw [if_pos rfl, hdV_no h2]
      have := (hdV_at hA (k := T.length) (t := (n, v)) (by rw [e1, List.getElem?_append_right (Nat.le_refl _), Nat.sub_self]; rfl)).1
      exact this
    · rw [if_neg e]
      rcases hdF_or T nm with ⟨g1, g2⟩ | ⟨j, u, g1, g2, g3⟩
      · rw [hdV_no g2, hdV_no]
        intro t ht
        rw [e1] at ht
        rcases List.mem_append.mp ht with z | z
        · exact g2 t z
        · rw [List.mem_singleton.mp z]; exact e
      · subst g3
        rw [(hdV_at hn g2).1, (hdV_at hA (k := j) (t := u) (by rw [e1, List.getElem?_append_left (List.getElem?_eq_some_iff.mp g2).1]; exact g2)).1]
  · have hk := (List.getElem?_eq_some_iff.mp h2).1
    have hv0 : (T.getD (hdF T n).toNat ([], [])).2 = t.2 := by rw [h1, Int.toNat_natCast, List.getD_eq_getElem?_getD, h2]; rfl
    have e1 : addL T n v = T.set k (n, t.2 ++ 44 :: v) := by rw [addL, if_neg (by omega), hv0, h1, Int.toNat_natCast]
    have hVn : hdV T n = some t.2 := hdV_k h1 h2
    by_cases e : n = nm
    · subst e
      rw [if_pos rfl, hVn]
      have := (hdV_at hA (k := k) (t := (n, t.2 ++ 44 :: v)) (by rw [e1, List.getElem?_set_self hk])).1
      exact this
    · rw [if_neg e]
      rcases hdF_or T nm with ⟨g1, g2⟩ | ⟨j, u, g1, g2, g3⟩
      · rw [hdV_no g2, hdV_no]
        intro w hw
        rw [e1] at hw
        rcases List.mem_or_eq_of_mem_set hw with z | z
        · exact g2 w z
        · rw [z]; exact e
      · have hjk : k ≠ j := fun z => by subst z; rw [h2] at g2; cases g2; exact e (h3.symm.trans g3)
        subst g3
        rw [(hdV_at hn g2).1, (hdV_at hA (k := j) (t := u) (by rw [e1, List.getElem?_set_ne hjk]; exact g2)).1]
theorem mrg_fold (nm : List Int) : ∀ (T M : Txt) (acc : Option (List Int)), hdN M → hdV M nm = acc → hdN (T.foldl (fun M l => addL M l.1 l.2) M) ∧ hdV (T.foldl (fun M l => addL M l.1 l.2) M) nm = vV nm acc T
  | [], M, acc, hn, h => ⟨hn, h⟩
  | l :: T, M, acc, hn, h => by
    rw [List.foldl_cons, vV]
    have h2 := addL_V hn l.1 l.2 nm
    by_cases e : l.1 = nm
    · rw [if_pos e]
      refine mrg_fold nm T _ _ (addL_N hn _ _) ?_
      rw [h2, if_pos e, e, h]
    · rw [if_neg e]
      refine mrg_fold nm T _ _ (addL_N hn _ _) ?_
      rw [h2, if_neg e, h]
theorem mrg_ok (T : Txt) (nm : List Int) : hdN (mrg T) ∧ hdV (mrg T) nm = vof T nm := mrg_fold nm T [] none List.nodup_nil rfl
theorem addL_len (T : Txt) (n v : List Int) : (addL T n v).length ≤ T.length + 1 := by
  unfold addL
  split
  · rw [List.length_append, List.length_singleton]; omega
  · rw [List.length_set]; omega
/-- the cells of a text's object that may change -/
abbrev HM (G : zE) (L ed : Nat) (rs : List Nat) : Nat → Prop := fun q => q = L ∨ (G.2.heap.size ≤ q ∧ q = ed) ∨ q ∈ rs
abbrev HQ (G : zE) (P : Nat → Prop) (L ed : Nat) (rs : List Nat) : Nat → Prop := fun q => P q ∧ ¬ HM G L ed rs q
theorem flat_take {L : List (List Int)} {j : Nat} {x : List Int} (h : L[j]? = some x) : (L.take (j + 1)).flatMap (fun x => x ++ [44]) = (L.take j).flatMap (fun x => x ++ [44]) ++ x ++ [44] := by
  obtain ⟨h1, h2⟩ := List.getElem?_eq_some_iff.mp h
  rw [List.take_succ_eq_append_getElem h1, List.flatMap_append, h2, List.append_assoc]; simp
theorem flat_len : ∀ (L : List (List Int)), (L.flatMap (fun x => x ++ [44])).length = sL L + L.length
  | [] => rfl
  | x :: L => by
    have e1 : sL (x :: L) = x.length + sL L := by unfold sL; rw [List.map_cons, List.sum_cons]
    rw [List.flatMap_cons, List.length_append, flat_len L, List.length_append, List.length_singleton, List.length_cons, e1]; omega
theorem sL_take_le (L : List (List Int)) (j : Nat) : sL (L.take j) + (L.take j).length ≤ sL L + L.length := by
  have h : sL L + L.length = (sL (L.take j) + (L.take j).length) + (sL (L.drop j) + (L.drop j).length) := by
    conv => lhs; rw [← List.take_append_drop j L]
    unfold sL
    rw [List.map_append, List.sum_append, List.length_append]; omega
  omega
theorem chs_flat {L : List (List Int)} (h : ∀ x ∈ L, chs x) : chs (L.flatMap (fun x => x ++ [44])) := fun c hc => by
  obtain ⟨x, hx, hc⟩ := List.mem_flatMap.mp hc
  rcases List.mem_append.mp hc with z | z
  · exact h x hx c z
  · rw [List.mem_singleton.mp z]; omega
/-- what the lists not yet made will cost -/
def uC : List Bool → Txt → Nat
  | c :: cs, l :: T => (if c = true then 0 else 7 * l.2.length + 20) + uC cs T
  | _, _ => 0
def uS : List Bool → Txt → Nat
  | c :: cs, l :: T => (if c = true then 0 else 26 * l.2.length + 300) + uS cs T
  | _, _ => 0
theorem uC_set : ∀ (cs : List Bool) (T : Txt) (k : Nat) (t : List Int × List Int), cs[k]? = some false → T[k]? = some t → uC cs T = (7 * t.2.length + 20) + uC (cs.set k true) T ∧ uS cs T = (26 * t.2.length + 300) + uS (cs.set k true) T
  | [], _, k, t, h, _ => by simp at h
  | c :: cs, [], k, t, _, h => by simp at h
  | c :: cs, l :: T, 0, t, h1, h2 => by
    cases h1; cases h2
    rw [List.set_cons_zero]
    exact ⟨by simp [uC], by simp [uS]⟩
  | c :: cs, l :: T, k + 1, t, h1, h2 => by
    have h := uC_set cs T k t h1 h2
    rw [List.set_cons_succ]
    exact ⟨by simp only [uC]; omega, by simp only [uS]; omega⟩
theorem set_same {cs : List Bool} {k : Nat} (h : cs[k]? = some true) : cs.set k true = cs := by
  obtain ⟨h1, h2⟩ := List.getElem?_eq_some_iff.mp h
  rw [← h2]
  exact List.set_getElem_self h1
/-- the flags behind asking for a name's list -/
def lsF (T : Txt) (cs : List Bool) (nm : List Int) : List Bool := if hdF T nm = -1 then cs else cs.set (hdF T nm).toNat true
theorem lsF_le (T : Txt) (cs : List Bool) (nm : List Int) (hl : cs.length = T.length) : uC (lsF T cs nm) T ≤ uC cs T ∧ uS (lsF T cs nm) T ≤ uS cs T ∧ (lsF T cs nm).length = T.length := by
  unfold lsF
  rcases hdF_or T nm with ⟨h1, -⟩ | ⟨k, t, h1, h2, -⟩
  · rw [if_pos h1]; exact ⟨Nat.le_refl _, Nat.le_refl _, hl⟩
  · rw [if_neg (by omega), h1, Int.toNat_natCast]
    have hk := (List.getElem?_eq_some_iff.mp h2).1
    obtain ⟨b, hb⟩ : ∃ b, cs[k]? = some b := ⟨_, List.getElem?_eq_getElem (by omega)⟩
    cases b with
    | true => rw [set_same hb]; exact ⟨Nat.le_refl _, Nat.le_refl _, hl⟩
    | false =>
      have := uC_set cs T k t hb h2
      exact ⟨by omega, by omega, by rw [List.length_set]; exact hl⟩
def lsO (v : Option (List Int)) : List Int := match v with
  | none => [32]
  | some x => lsd x
def secO (v : Option (List Int)) : Int := match v with
  | none => -1
  | some x => numOf x
