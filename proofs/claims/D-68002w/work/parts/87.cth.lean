/-! ===== the component's things in the heap; asking for the one: pure ===== -/
/-- the component's thing at a -/
def CTh (G : zE) (P : Nat → Prop) (H : Heap) (a : Nat) (t : Th) : Prop := ThOk t ∧ ∃ e v w co : Nat, Ob G H a 4 [.int (iI (tPath t)), .ref e, .ref v, .ref w, .ref co, .int (iI (tLife t)), .int (iI (tAge t)), .int (iI (tSince t)), .int (iI (tUsed t : Int))] ∧ St G P H e (tEtag t) ∧ LSt G P H v (tVary t) ∧ LSt G P H w ((tVals t).map lsO) ∧ Ct G P H co (ctL (tCc t))
theorem CTh.kp {G : zE} {P P' : Nat → Prop} {H H' : Heap} {a : Nat} {t : Th} (hz : zOK G) (h : CTh G P H a t) (hk : Kp P H P' H') (hg : H'[a]? = H[a]?) : CTh G P' H' a t := by
  obtain ⟨h0, e, v, w, co, h1, h2, h3, h4, h5⟩ := h
  exact ⟨h0, e, v, w, co, h1.kept hg, h2.kp hk, h3.kp hz hk, h4.kp hz hk, h5.kp hz hk⟩
theorem CTh.lt {G : zE} {P : Nat → Prop} {H : Heap} {a : Nat} {t : Th} (h : CTh G P H a t) : a < H.size := by
  obtain ⟨-, _, _, _, _, h1, -⟩ := h
  exact h1.lt
theorem CTh.cl {G : zE} {P : Nat → Prop} {H : Heap} {a : Nat} {t : Th} (h : CTh G P H a t) : Cl G H a 4 := by
  obtain ⟨-, _, _, _, _, h1, -⟩ := h
  exact h1.cl
theorem CTh.el {G : zE} {U : State} {P : Nat → Prop} {H : Heap} {a : Nat} {t : Th} (hK : KK G U) (h : CTh G P H a t) : El G H a := by
  obtain ⟨-, _, _, _, _, h1, -⟩ := h
  exact El.ob hK h1 rfl q1431
theorem CTh.ext {G : zE} {P : Nat → Prop} {H H' : Heap} {a : Nat} {t : Th} (hz : zOK G) (h : CTh G P H a t) (e : Ext H H') : CTh G P H' a t := h.kp hz (Kp.ext e) (e.2 a h.lt)
/-- things at addresses -/
def CTs (G : zE) (P : Nat → Prop) (H : Heap) (as : List Nat) (ts : List Th) : Prop := as.length = ts.length ∧ ∀ (i a : Nat) (t : Th), as[i]? = some a → ts[i]? = some t → CTh G P H a t
theorem CTs.kp {G : zE} {P P' : Nat → Prop} {H H' : Heap} {as : List Nat} {ts : List Th} (hz : zOK G) (h : CTs G P H as ts) (hk : Kp P H P' H') (hg : ∀ a ∈ as, H'[a]? = H[a]?) : CTs G P' H' as ts := ⟨h.1, fun i a t ha ht => (h.2 i a t ha ht).kp hz hk (hg a (List.mem_of_getElem? ha))⟩
theorem CTs.ext {G : zE} {P : Nat → Prop} {H H' : Heap} {as : List Nat} {ts : List Th} (hz : zOK G) (h : CTs G P H as ts) (e : Ext H H') : CTs G P H' as ts := ⟨h.1, fun i a t ha ht => (h.2 i a t ha ht).ext hz e⟩
theorem CTs.at {G : zE} {P : Nat → Prop} {H : Heap} {as : List Nat} {ts : List Th} (h : CTs G P H as ts) {i a : Nat} (ha : as[i]? = some a) : ∃ t, ts[i]? = some t ∧ CTh G P H a t := by
  have h1 := (List.getElem?_eq_some_iff.mp ha).1
  have h2 : ts[i]? = some (ts[i]'(by rw [← h.1]; exact h1)) := List.getElem?_eq_getElem _
  exact ⟨_, h2, h.2 i a _ ha h2⟩
theorem CTs.get {G : zE} {P : Nat → Prop} {H : Heap} {as : List Nat} {ts : List Th} (h : CTs G P H as ts) {a : Nat} (ha : a ∈ as) : ∃ t, CTh G P H a t := by
  obtain ⟨i, hi, rfl⟩ := List.mem_iff_getElem.mp ha
  obtain ⟨t, -, h1⟩ := h.at (List.getElem?_eq_getElem hi)
  exact ⟨t, h1⟩
theorem CTs.el {G : zE} {U : State} {P : Nat → Prop} {H : Heap} {as : List Nat} {ts : List Th} (hK : KK G U) (h : CTs G P H as ts) : ∀ y, y ∈ as → El G H y := fun y hy => by
  obtain ⟨t, ht⟩ := h.get hy
  exact ht.el hK
theorem CTs.rm {G : zE} {P : Nat → Prop} {H : Heap} {as : List Nat} {ts : List Th} (h : CTs G P H as ts) (j : Nat) : CTs G P H (rmi as j) (rmi ts j) := by
  unfold rmi
  refine ⟨by simp [h.1], fun i a t ha ht => ?_⟩
  have hl : (as.take j).length = (ts.take j).length := by rw [List.length_take, List.length_take, h.1]
  by_cases hi : i < (as.take j).length
  · rw [List.getElem?_append_left hi, List.getElem?_take] at ha
    rw [List.getElem?_append_left (by rw [← hl]; exact hi), List.getElem?_take] at ht
    split at ha
    · rename_i hij
      rw [if_pos hij] at ht
      exact h.2 i a t ha ht
    · cases ha
  · rw [List.getElem?_append_right (by omega), List.getElem?_drop] at ha
    rw [List.getElem?_append_right (by omega), List.getElem?_drop, ← hl] at ht
    exact h.2 _ a t ha ht
theorem CTs.snoc {G : zE} {P : Nat → Prop} {H : Heap} {as : List Nat} {ts : List Th} {a : Nat} {t : Th} (h : CTs G P H as ts) (h2 : CTh G P H a t) : CTs G P H (as ++ [a]) (ts ++ [t]) := by
  refine ⟨by simp [h.1], fun i b u hb hu => ?_⟩
  by_cases hi : i < as.length
  · rw [List.getElem?_append_left hi] at hb
    rw [List.getElem?_append_left (by rw [← h.1]; exact hi)] at hu
    exact h.2 i b u hb hu
  · rw [List.getElem?_append_right (by omega)] at hb
    rw [List.getElem?_append_right (by rw [← h.1]; omega), ← h.1] at hu
    have hz := (List.getElem?_eq_some_iff.mp hb).1
    simp at hz
    have e : i - as.length = 0 := by omega
    rw [e] at hb hu
    cases hb; cases hu
    exact h2
/-! what asking computes -/
def forX (T : Txt) : List (List Int) → List (Option (List Int)) → Bool
  | v :: vs, w :: ws => decide (lsO (hdV T v) = lsO w) && forX T vs ws
  | _, _ => true
def csI (T : Txt) : List Bool → List (List Int) → List (Option (List Int)) → List Bool
  | cs, v :: vs, w :: ws => if lsO (hdV T v) = lsO w then csI T (lsF T cs v) vs ws else lsF T cs v
  | cs, _, _ => cs
abbrev csV (T : Txt) (cs : List Bool) (vs : List (List Int)) : List Bool := vs.foldl (lsF T) cs
def oneX (T : Txt) (p0 : Int) (ts : List Th) : Nat → Int
  | 0 => -1
  | n + 1 => match ts[n]? with
    | none => -1
    | some t => if tPath t = p0 ∧ forX T (tVary t) (tVals t) = true then (n : Int) else oneX T p0 ts n
def csO (T : Txt) (p0 : Int) (ts : List Th) : Nat → List Bool → List Bool
  | 0, cs => cs
  | n + 1, cs => match ts[n]? with
    | none => cs
    | some t => if tPath t = p0 then (if forX T (tVary t) (tVals t) = true then csI T cs (tVary t) (tVals t) else csO T p0 ts n (csI T cs (tVary t) (tVals t))) else csO T p0 ts n cs
/-- the flags grow: what is left to make gets less -/
def fLe (T : Txt) (cs cs' : List Bool) : Prop := uC cs' T ≤ uC cs T ∧ uS cs' T ≤ uS cs T ∧ cs'.length = T.length
theorem fLe.tr {T : Txt} {a b c : List Bool} (h1 : fLe T a b) (h2 : fLe T b c) : fLe T a c := ⟨Nat.le_trans h2.1 h1.1, Nat.le_trans h2.2.1 h1.2.1, h2.2.2⟩
theorem fLe.rf {T : Txt} {a : List Bool} (h : a.length = T.length) : fLe T a a := ⟨Nat.le_refl _, Nat.le_refl _, h⟩
theorem fLe.ls {T : Txt} {cs : List Bool} (nm : List Int) (h : cs.length = T.length) : fLe T cs (lsF T cs nm) := lsF_le T cs nm h
theorem csV_le {T : Txt} : ∀ (vs : List (List Int)) (cs : List Bool), cs.length = T.length → fLe T cs (csV T cs vs)
  | [], cs, h => .rf h
  | v :: vs, cs, h => (fLe.ls v h).tr (csV_le vs _ (fLe.ls v h).2.2)
theorem csI_le {T : Txt} : ∀ (vs : List (List Int)) (ws : List (Option (List Int))) (cs : List Bool), cs.length = T.length → fLe T cs (csI T cs vs ws)
  | [], ws, cs, h => by cases ws <;> exact .rf h
  | v :: vs, [], cs, h => .rf h
  | v :: vs, w :: ws, cs, h => by
    rw [csI]
    split
    · exact (fLe.ls v h).tr (csI_le vs ws _ (fLe.ls v h).2.2)
    · exact fLe.ls v h
theorem csO_le {T : Txt} {p0 : Int} {ts : List Th} : ∀ (n : Nat) (cs : List Bool), cs.length = T.length → fLe T cs (csO T p0 ts n cs)
  | 0, cs, h => .rf h
  | n + 1, cs, h => by
    rw [csO]
    split
    · exact .rf h
    · split
      · split
        · exact csI_le _ _ _ h
        · exact (csI_le _ _ _ h).tr (csO_le n _ (csI_le _ _ _ h).2.2)
      · exact csO_le n _ h
theorem oneX_rg (T : Txt) (p0 : Int) (ts : List Th) : ∀ n : Nat, -1 ≤ oneX T p0 ts n ∧ oneX T p0 ts n < (ts.length : Int)
  | 0 => ⟨Int.le_refl _, by show (-1 : Int) < _; omega⟩
  | n + 1 => by
    have ih := oneX_rg T p0 ts n
    rw [oneX]
    split
    · omega
    · rename_i t ht
      have := (List.getElem?_eq_some_iff.mp ht).1
      split <;> omega
theorem HR.mk' {G : zE} {P : Nat → Prop} {H H1 : Heap} {rq L ed cap : Nat} {mz : Int} {rs : List Nat} {T : Txt} {cs : List Bool} (hz : zOK G) (h1 : P rq) (h2 : P L) (h3 : ed = e0 G ∨ P ed) (h4 : Ob G H rq 1 [.ref L]) (h5 : Ob G H L 8 [.int (iI mz), .ref ed, .int (iI (rs.length : Int))]) (h6 : EDok G H ed rs cap) (h7 : cap ≤ 100000) (hk : Kp P H P H1) (hN : LnB G P H1 rs T cs) : HR G P H1 rq rs T cs := ⟨L, ed, cap, mz, h1, h2, h3, h4.kp h1 hk, h5.kp h2 hk, (h6.kp hz h3 hk).1, h7, hN⟩
theorem HR.weak {G : zE} {P P' : Nat → Prop} {H : Heap} {rq : Nat} {rs : List Nat} {T : Txt} {cs : List Bool} (hz : zOK G) (h : HR G P H rq rs T cs) (hw : ∀ q, P q → P' q) : HR G P' H rq rs T cs := h.kp hz (Kp.weak (fun q _ z => hw q z)) (fun _ _ => rfl)
theorem HR.len {G : zE} {P : Nat → Prop} {H : Heap} {rq : Nat} {rs : List Nat} {T : Txt} {cs : List Bool} (h : HR G P H rq rs T cs) : rs.length = T.length ∧ cs.length = T.length := by
  obtain ⟨L, ed, cap, mz, h1, h2, h3, h4, h5, h6, h7, h8⟩ := h
  exact ⟨h8.1, h8.2.1⟩
theorem HR.ob {G : zE} {P : Nat → Prop} {H : Heap} {rq : Nat} {rs : List Nat} {T : Txt} {cs : List Bool} (h : HR G P H rq rs T cs) : ∃ L : Nat, P rq ∧ Ob G H rq 1 [.ref L] := by
  obtain ⟨L, ed, cap, mz, h1, h2, h3, h4, -⟩ := h
  exact ⟨L, h1, h4⟩
theorem HR.rcl {G : zE} {P : Nat → Prop} {H : Heap} {rq : Nat} {rs : List Nat} {T : Txt} {cs : List Bool} (h : HR G P H rq rs T cs) : ∀ r ∈ rs, Cl G H r 3 := fun r hr => by
  obtain ⟨L, ed, cap, mz, h1, h2, h3, h4, h5, h6, h7, h8⟩ := h
  obtain ⟨t, cb, ht⟩ := h8.get hr
  exact ht.cl
