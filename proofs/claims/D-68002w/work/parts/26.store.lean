/-! ===== the store, as a value ===== -/
/-- a thing: path, etag ([]: none), vary, values, cache-control, life, age, since, used -/
abbrev Th : Type := Int × List Int × List (List Int) × List (Option (List Int)) × Option (List Int) × Int × Int × Int × Nat
abbrev tPath (t : Th) : Int := t.1
abbrev tEtag (t : Th) : List Int := t.2.1
abbrev tVary (t : Th) : List (List Int) := t.2.2.1
abbrev tVals (t : Th) : List (Option (List Int)) := t.2.2.2.1
abbrev tCc (t : Th) : Option (List Int) := t.2.2.2.2.1
abbrev tLife (t : Th) : Int := t.2.2.2.2.2.1
abbrev tAge (t : Th) : Int := t.2.2.2.2.2.2.1
abbrev tSince (t : Th) : Int := t.2.2.2.2.2.2.2.1
abbrev tUsed (t : Th) : Nat := t.2.2.2.2.2.2.2.2
def oet (x : List Int) : Option (List Int) := if x = [] then none else some x
/-- what holds of every thing kept -/
def ThOk (t : Th) : Prop := chs (tEtag t) ∧ (tEtag t).length ≤ 40000 ∧ (∀ x ∈ tVary t, chs x ∧ x.length ≤ 40000) ∧ (tVary t).length ≤ 40000 ∧ (tVals t).length = (tVary t).length ∧ (∀ v ∈ tVals t, ochs v ∧ olen v 40000) ∧ (0 ≤ tLife t ∧ tLife t < 1000000) ∧ (0 ≤ tAge t ∧ tAge t < 1000000) ∧ (0 ≤ tSince t ∧ tSince t ≤ 1000000000) ∧ (ochs (tCc t) ∧ olen (tCc t) 40000) ∧ rg (tPath t) ∧ tUsed t < 1000000
/-- the model's thing at g -/
def MTh (G : zE) (P : Nat → Prop) (H : Heap) (g : Nat) (t : Th) : Prop := ThOk t ∧ ∃ (re : Option Nat) (rv rw : Nat), Ob G H g 7 [.int (iI (tPath t)), .int (iI (wrd (tCc t) nSm)), .int (iI (wrd (tCc t) nMa)), .int (iI (tLife t)), .int (iI (tAge t)), .int (iI (tSince t)), .int (iI (b2i (hasW (tCc t) nNc))), .int (iI (b2i (mka (tCc t)))), va_rf re, .ref rv, .ref rw, .long (lN (tUsed t))] ∧ Orw G P H re (oet (tEtag t)) ∧ Rq G P H rv ((tVary t).map some) ∧ Rq G P H rw (tVals t)
theorem MTh.kp {G : zE} {P P' : Nat → Prop} {H H' : Heap} {g : Nat} {t : Th} (h : MTh G P H g t) (hk : Kp P H P' H') (hg : H'[g]? = H[g]?) : MTh G P' H' g t := by
  obtain ⟨h0, re, rv, rw, h1, h2, h3, h4⟩ := h
  exact ⟨h0, re, rv, rw, h1.kept hg, h2.kp hk, h3.kp hk, h4.kp hk⟩
theorem MTh.ext {G : zE} {P : Nat → Prop} {H H' : Heap} {g : Nat} {t : Th} (h : MTh G P H g t) (e : Ext H H') : MTh G P H' g t := by
  have hl : g < H.size := by obtain ⟨-, _, _, _, h1, -⟩ := h; exact h1.lt
  exact h.kp (Kp.ext e) (e.2 g hl)
theorem MTh.ob {G : zE} {P : Nat → Prop} {H : Heap} {g : Nat} {t : Th} (h : MTh G P H g t) : ∃ vs, Ob G H g 7 vs := by
  obtain ⟨-, _, _, _, h1, -⟩ := h
  exact ⟨_, h1⟩
/-- things at addresses -/
def MTs (G : zE) (P : Nat → Prop) (H : Heap) (as : List Nat) (ts : List Th) : Prop := as.length = ts.length ∧ ∀ (i a : Nat) (t : Th), as[i]? = some a → ts[i]? = some t → MTh G P H a t
theorem MTs.ext {G : zE} {P : Nat → Prop} {H H' : Heap} {as : List Nat} {ts : List Th} (h : MTs G P H as ts) (e : Ext H H') : MTs G P H' as ts := ⟨h.1, fun i a t ha ht => (h.2 i a t ha ht).ext e⟩
theorem MTs.kp {G : zE} {P P' : Nat → Prop} {H H' : Heap} {as : List Nat} {ts : List Th} (h : MTs G P H as ts) (hk : Kp P H P' H') (hg : ∀ a ∈ as, H'[a]? = H[a]?) : MTs G P' H' as ts := ⟨h.1, fun i a t ha ht => (h.2 i a t ha ht).kp hk (hg a (List.mem_of_getElem? ha))⟩
theorem MTs.ob {G : zE} {P : Nat → Prop} {H : Heap} {as : List Nat} {ts : List Th} (h : MTs G P H as ts) : ∀ a ∈ as, ∃ vs, Ob G H a 7 vs := by
  intro a ha
  obtain ⟨i, hi⟩ := List.getElem?_of_mem ha
  have h1 := (List.getElem?_eq_some_iff.mp hi).1
  exact (h.2 i a _ hi (List.getElem?_eq_getElem (by rw [← h.1]; exact h1))).ob
theorem MTs.get {G : zE} {P : Nat → Prop} {H : Heap} {as : List Nat} {ts : List Th} (h : MTs G P H as ts) {i a : Nat} (ha : as[i]? = some a) : ∃ t, ts[i]? = some t ∧ MTh G P H a t := by
  have h1 := (List.getElem?_eq_some_iff.mp ha).1
  have h2 : ts[i]? = some (ts[i]'(by rw [← h.1]; exact h1)) := List.getElem?_eq_getElem _
  exact ⟨_, h2, h.2 i a _ ha h2⟩
theorem MTs.rm {G : zE} {P : Nat → Prop} {H : Heap} {as : List Nat} {ts : List Th} (h : MTs G P H as ts) (j : Nat) : MTs G P H (rmi as j) (rmi ts j) := by
  unfold rmi
  refine ⟨by simp [h.1], fun i a t ha ht => ?_⟩
  have hl : (as.take j).length = (ts.take j).length := by rw [List.length_take, List.length_take, h.1]
  by_cases hi : i < (as.take j).length
  · rw [List.getElem?_append_left hi, List.getElem?_take] at ha
    rw [List.getElem?_append_left (by rw [← hl]; exact hi), List.getElem?_take] at ht
    split at ha
    · rename_i hij
      rw [if_pos hij] at ht
      exact h.2 i a t ha ht
    · cases ha
  · rw [List.getElem?_append_right (by omega), List.getElem?_drop] at ha
    rw [List.getElem?_append_right (by omega), List.getElem?_drop, ← hl] at ht
    exact h.2 _ a t ha ht
theorem MTs.snoc {G : zE} {P : Nat → Prop} {H : Heap} {as : List Nat} {ts : List Th} {a : Nat} {t : Th} (h : MTs G P H as ts) (h2 : MTh G P H a t) : MTs G P H (as ++ [a]) (ts ++ [t]) := by
  refine ⟨by simp [h.1], fun i b u hb hu => ?_⟩
  by_cases hi : i < as.length
  · rw [List.getElem?_append_left hi] at hb
    rw [List.getElem?_append_left (by rw [← h.1]; exact hi)] at hu
    exact h.2 i b u hb hu
  · rw [List.getElem?_append_right (by omega)] at hb
    rw [List.getElem?_append_right (by rw [← h.1]; omega), ← h.1] at hu
    have hz := (List.getElem?_eq_some_iff.mp hb).1
    simp at hz
    have e : i - as.length = 0 := by omega
    rw [e] at hb hu
    cases hb; cases hu
    exact h2
/-- whether a thing is for a request -/
def forR (T : Txt) (vs : List (List Int)) (ws : List (Option (List Int))) : Bool := match vs, ws with
  | v :: vs, w :: ws => alk w (vof T v) && forR T vs ws
  | _, _ => true
def isOne (T : Txt) (p0 : Int) (t : Th) : Bool := decide (tPath t = p0) && forR T (tVary t) (tVals t)
def likeV (ws us : List (Option (List Int))) : Bool := match ws, us with
  | w :: ws, u :: us => alk w u && likeV ws us
  | _, _ => true
def isLk (g t : Th) : Bool := decide (tPath t = tPath g) && decide (tVary t = tVary g) && likeV (tVals t) (tVals g)
/-- the last place of a row where q holds, -1 -/
def lix {A : Type} (q : A → Bool) : List A → Nat → Int → Int
  | [], _, f => f
  | t :: ts, i, f => lix q ts (i + 1) (if q t then (i : Int) else f)
/-- the first -/
def fix1 {A : Type} (q : A → Bool) : List A → Nat → Int
  | [], _ => -1
  | t :: ts, i => if q t then (i : Int) else fix1 q ts (i + 1)
theorem lix_rg {A : Type} (q : A → Bool) : ∀ (ts : List A) (i : Nat) (f : Int), -1 ≤ f → f < (i : Int) → -1 ≤ lix q ts i f ∧ lix q ts i f < ((i + ts.length : Nat) : Int)
  | [], i, f, h1, h2 => ⟨h1, by simpa [lix] using h2⟩
  | t :: ts, i, f, h1, h2 => by
    have := lix_rg q ts (i + 1) (if q t then (i : Int) else f) (by split <;> omega) (by split <;> omega)
    rw [lix, List.length_cons, show i + (ts.length + 1) = i + 1 + ts.length by omega]
    exact this
theorem fix1_rg {A : Type} (q : A → Bool) : ∀ (ts : List A) (i : Nat), -1 ≤ fix1 q ts i ∧ fix1 q ts i < ((i + ts.length : Nat) : Int)
  | [], i => ⟨by simp [fix1], by simp [fix1]; omega⟩
  | t :: ts, i => by
    have := fix1_rg q ts (i + 1)
    rw [fix1, List.length_cons, show i + (ts.length + 1) = i + 1 + ts.length by omega]
    split
    · omega
    · exact this
/-- the first place of the least -/
def lst1 (us : List Nat) : List Nat → Nat → Nat → Nat
  | [], _, f => f
  | u :: ts, i, f => lst1 us ts (i + 1) (if u < us.getD f 0 then i else f)
/-- costs: of holding a thing against a request, against another -/
def foC (T : Txt) (vs : List (List Int)) (ws : List (Option (List Int))) : Nat := match vs, ws with
  | v :: vs, w :: ws => (vC v none T + alC w (vof T v)) + foC T vs ws
  | _, _ => 0
def foS (T : Txt) (vs : List (List Int)) (ws : List (Option (List Int))) : Nat := match vs, ws with
  | v :: vs, w :: ws => (vS v none T + alS w (vof T v)) + foS T vs ws
  | _, _ => 0
def lkC (ws us : List (Option (List Int))) : Nat := match ws, us with
  | w :: ws, u :: us => alC w u + lkC ws us
  | _, _ => 0
def lkS (ws us : List (Option (List Int))) : Nat := match ws, us with
  | w :: ws, u :: us => alS w u + lkS ws us
  | _, _ => 0
def theC (T : Txt) (ts : List Th) : Nat := (ts.map (fun t => foC T (tVary t) (tVals t))).sum
def theS (T : Txt) (ts : List Th) : Nat := (ts.map (fun t => foS T (tVary t) (tVals t))).sum
/-- placeOf holds it against things of the same vary alone -/
def plC (g : Th) (ts : List Th) : Nat := (ts.map (fun t => if tVary t = tVary g then lkC (tVals t) (tVals g) else 0)).sum
def plS (g : Th) (ts : List Th) : Nat := (ts.map (fun t => if tVary t = tVary g then lkS (tVals t) (tVals g) else 0)).sum
def star (vs : List (List Int)) : Bool := vs.any (fun x => decide (x = [42]))
theorem drop_s {A : Type} {xs : List A} {j : Nat} {x : A} (h : xs[j]? = some x) : xs.drop j = x :: xs.drop (j + 1) := by
  obtain ⟨h1, h2⟩ := List.getElem?_eq_some_iff.mp h
  rw [List.drop_eq_getElem_cons h1, h2]
theorem gas {as : List Nat} {r j : Nat} {x : Option Nat} (h : (as.map some ++ List.replicate r none)[j]? = some x) (hj : j < as.length) : ∃ a, as[j]? = some a ∧ x = some a := by
  rw [List.getElem?_append_left (by rw [List.length_map]; exact hj), List.getElem?_map] at h
  refine ⟨as[j], List.getElem?_eq_getElem hj, ?_⟩
  rw [List.getElem?_eq_getElem hj] at h
  exact (Option.some.inj h).symm
theorem Ors.get {G : zE} {P : Nat → Prop} {H : Heap} {rs : List (Option Nat)} {vs : List (Option (List Int))} (h : Ors G P H rs vs) {i : Nat} {r : Option Nat} (hr : rs[i]? = some r) : ∃ v, vs[i]? = some v ∧ Orw G P H r v := by
  have h1 := (List.getElem?_eq_some_iff.mp hr).1
  have h2 : vs[i]? = some (vs[i]'(by rw [← h.1]; exact h1)) := List.getElem?_eq_getElem _
  exact ⟨_, h2, h.2 i r _ hr h2⟩
theorem Ors.gets {G : zE} {P : Nat → Prop} {H : Heap} {rs : List (Option Nat)} {vs : List (List Int)} (h : Ors G P H rs (vs.map some)) {i : Nat} {r : Option Nat} (hr : rs[i]? = some r) : ∃ v a, vs[i]? = some v ∧ r = some a ∧ P a ∧ Ai G H a 101 v := by
  obtain ⟨v, h1, h2⟩ := h.get hr
  rw [List.getElem?_map, Option.map_eq_some_iff] at h1
  obtain ⟨w, h3, rfl⟩ := h1
  obtain ⟨a, h4, h5, h6⟩ := h2.s
  exact ⟨w, a, h3, h4, h5, h6⟩
theorem ochs_of {vs : List (Option (List Int))} {N : Nat} (h : ∀ v ∈ vs, ochs v ∧ olen v N) {i : Nat} {v : Option (List Int)} (hv : vs[i]? = some v) : ochs v ∧ olen v N := h v (List.mem_of_getElem? hv)
theorem lN_cmp {a b : Nat} (ha : a < 2147483648) (hb : b < 2147483648) : (lg_cmp (lN a) (lN b) ≥ 0) ↔ b ≤ a := (lg_cmp_ge _ _).trans (lN_le (by omega) (by omega))
abbrev agT (t : Th) (ti : Int) : Int := tAge t + ti - tSince t
def frs (t : Th) (ti : Int) : Bool := !(hasW (tCc t) nNc) && decide (agT t ti < tLife t)
def alw (v : Option (List Int)) (t : Th) (ti : Int) : Bool := !(mka (tCc t)) && decide (wrd v nMs = -1 ∨ (0 ≤ wrd v nMs ∧ agT t ti < tLife t + wrd v nMs))
/-- the answer to one who asks -/
def ans (v : Option (List Int)) (t : Th) (ti : Int) : Int :=
  if hasW v nNc = true then 3 else if 0 ≤ wrd v nMa ∧ wrd v nMa < agT t ti then 3 else
  if frs t ti = true then (if wrd v nMf < 0 ∨ agT t ti + wrd v nMf < tLife t ∨ alw v t ti = true then 1 else 3) else if alw v t ti = true then 2 else 3
theorem ThOk.age {t : Th} (h : ThOk t) {ti : Int} (hti : 0 ≤ ti ∧ ti ≤ 1000000000) : -1000000000 ≤ agT t ti ∧ agT t ti ≤ 1001000000 ∧ 0 ≤ tLife t ∧ tLife t < 1000000 := by
  obtain ⟨-, -, -, -, -, -, h1, h2, h3, -⟩ := h
  show -1000000000 ≤ tAge t + ti - tSince t ∧ tAge t + ti - tSince t ≤ 1001000000 ∧ _
  omega
