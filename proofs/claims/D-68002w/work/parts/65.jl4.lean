/-! ===== the JDK: lists 4 (lists of strings compared) ===== -/
set_option maxHeartbeats 4000000 in
set_option maxRecDepth 100000 in
theorem m_J2_indexOfRange (G : zE) (l : Launch) (H0 : Heap) (P P' : Nat → Prop) (a ed cap y : Nat) (u0 : Value) (rs : List Nat) (xs : List (List Int)) (ys : List Int) (hB : Bh G H0) (h : Ob G H0 a 8 [u0, .ref ed, .int (iI (rs.length : Int))]) (h2 : EDok G H0 ed rs cap) (hn : rs.length = xs.length ∧ rs.length ≤ 100000) (hst : ∀ (i r : Nat) (x : List Int), rs[i]? = some r → xs[i]? = some x → St G P H0 r x) (hy : St G P' H0 y ys) {mc ms : Nat}  : zR G l yJ2_indexOfRange (ws_ yJ2_indexOfRange cJ2_indexOfRange 6 (some FieldType.int)) 2 44 mc ms [.ref a, .ref y, .int (iI 0), .int (iI ↑rs.length)] H0 (fun r _ => r = .int (iI (fix1 (fun x => decide (ys = x)) xs 0))) (Pur H0) := by
  refine zR.start (cc := cJ2_indexOfRange) (by decide) (Nat.le_of_ble_eq_true rfl) ?_
  intro p e s m args below meth c Q cx hQ hmn ls hl
  have hx := cx.1
  have hb := cx.2.1
  have hS : va_S (Pur H0) H0 H0 [] := va_S.rf
  have hl : lv_has ls 6 [(0, .ref a), (1, .ref y), (2, .int (iI 0)), (3, .int (iI ↑rs.length))] := hl
  have hy2 := hy
  obtain ⟨-, -, -, b, -, hs, -⟩ := hy2
  refine lv_aload_n hx hb dJ2_indexOfRange_0 rfl (lv_at hl 0 rfl) ?_
  refine z_get cx (k0 := 1) h rfl in_J2 (by decide) q86 rfl rfl dJ2_indexOfRange_1 ?_
  refine lv_astore (lv' := [(4, .ref ed), (0, .ref a), (1, .ref y), (2, .int (iI 0)), (3, .int (iI ↑rs.length))]) hx hb dJ2_indexOfRange_4 hl (by decide) rfl (fun ls hl => ?_)
  refine lv_aload_n hx hb dJ2_indexOfRange_6 rfl (lv_at hl 2 rfl) ?_
  refine lv_ifnonnull (tgt := 39) hx hb dJ2_indexOfRange_7 (by decide) ?_
  refine lv_iload_n hx hb dJ2_indexOfRange_39 rfl (lv_at hl 3 rfl) ?_
  refine lv_istore (lv' := [(5, .int (iI 0)), (4, .ref ed), (0, .ref a), (1, .ref y), (2, .int (iI 0)), (3, .int (iI ↑rs.length))]) hx hb dJ2_indexOfRange_40 hl (by decide) rfl (fun ls hl => ?_)
  have lp : ∀ (fuel : Nat) (j : Nat), (rs.length - j) < fuel → (j ≤ rs.length) → (fix1 (fun x => decide (ys = x)) xs 0 = fix1 (fun x => decide (ys = x)) (xs.drop j) j) → ∀ (H : Heap) (locs : List Loc) (ls : Array Slot) (k n : Nat), va_S (Pur H0) H0 H locs → (k ≤ mc) → (n ≤ ms) → lv_has ls 6 [(0, .ref a), (1, .ref y), (2, .int (iI 0)), (3, .int (iI ↑rs.length)), (4, .ref ed), (5, .int (iI ↑j))] → W p l e ⟨2, mc, ms, 44⟩ s m args below meth c H locs k n Q (F0 m 42 ls []) := by
    intro fuel
    induction fuel with
    | zero => intro j hf9; exact absurd hf9 (Nat.not_lt_zero _)
    | succ fuel ih_lp =>
      intro j hf9 hj he H locs ls k n hS  hr1 hr2 hl
      refine lv_iload hx hb dJ2_indexOfRange_42 (lv_at hl 5 rfl) ?_
      refine lv_iload_n hx hb dJ2_indexOfRange_44 rfl (lv_at hl 3 rfl) ?_
      refine z_icmp_ge cx (tgt := 69) dJ2_indexOfRange_45 (by decide) (by omega) (fun c45 => ?_) (fun c45 => ?_)
      · rw [List.drop_eq_nil_of_le (show xs.length ≤ j by omega)] at he
        refine lv_iconst (v := iI (-1)) hx hb dJ2_indexOfRange_69 rfl ?_
        exact z_iret cx hQ rfl rfl (by rw [he]; rfl) hS (by omega) dJ2_indexOfRange_70
      · refine lv_aload_n hx hb dJ2_indexOfRange_48 rfl (lv_at hl 1 rfl) ?_
        refine lv_aload hx hb dJ2_indexOfRange_49 (lv_at hl 4 rfl) ?_
        refine lv_iload hx hb dJ2_indexOfRange_51 (lv_at hl 5 rfl) ?_
        refine z_aaldE cx (h2.ext (Ext.ofS hS)) (j) (by omega) dJ2_indexOfRange_53 (fun w hw => ?_)
        obtain ⟨x, hx5⟩ : ∃ x, xs[j]? = some x := ⟨_, List.getElem?_eq_getElem (by omega)⟩
        rw [drop_s hx5, fix1] at he
        refine z_callO cx (j := 1) (m_J5_equals G l _ P' P y w ys x (hB.ext (Ext.ofS hS)) (hy.ext (Ext.ofS hS)) ((hst j w x hw hx5).ext (Ext.ofS hS)) (mc := 0) (ms := 0)) (lw_O q1077 q964 q963 q978 q628 q40 q630) q980 (zrecvS cx (hs.ext (Ext.ofS hS))) (by decide +kernel) rfl (rest := []) rfl hl (Nat.le_of_ble_eq_true rfl) (by decide) (by omega) dJ2_indexOfRange_54 hS (fun q h => Nat.le_trans hS.1 h) (fun v54 H locs hp54 hz9 hk9 hS => ?_)
        have hE9 := Ext.of hz9 hk9 (fun q h => h)
        have hb54 := b2i_rg (decide (ys = x))
        subst hp54
        refine z_if_eq cx (tgt := 63) dJ2_indexOfRange_57 (by decide) (by omega) (fun c57 => ?_) (fun c57 => ?_)
        · have hne := b2i_F c57
          rw [if_neg (by rw [decide_eq_false hne]; exact Bool.false_ne_true)] at he
          refine z_iinc cx (j := 5) (z := ((j + 1 : Nat) : Int)) (lv' := [(5, .int (iI ((j + 1 : Nat) : Int))), (0, .ref a), (1, .ref y), (2, .int (iI 0)), (3, .int (iI ↑rs.length)), (4, .ref ed)]) dJ2_indexOfRange_63 hl rfl (by omega) (by decide) rfl (fun ls hl => ?_)
          refine lv_goto (tgt := 42) hx hb dJ2_indexOfRange_66 (by decide) ?_
          exact ih_lp (j + 1) (by omega) (by omega) he _ _ _ _ _ hS  (by omega) (by omega) (lv_sub hl [1, 2, 3, 4, 5, 0] rfl)
        · have heq := b2i_T c57
          rw [if_pos (decide_eq_true heq)] at he
          refine lv_iload hx hb dJ2_indexOfRange_60 (lv_at hl 5 rfl) ?_
          exact z_iret cx hQ rfl rfl (by rw [he]) hS (by omega) dJ2_indexOfRange_62
  exact lp _ 0 (Nat.lt_succ_self _) (Nat.zero_le _) (by rw [List.drop_zero]) _ _ _ _ _ hS  (by omega) (by omega) (lv_sub hl [2, 3, 4, 5, 1, 0] rfl)
set_option maxHeartbeats 4000000 in
set_option maxRecDepth 100000 in
theorem m_J2_indexOf (G : zE) (l : Launch) (H0 : Heap) (P P' : Nat → Prop) (a ed cap y : Nat) (u0 : Value) (rs : List Nat) (xs : List (List Int)) (ys : List Int) (hB : Bh G H0) (h : Ob G H0 a 8 [u0, .ref ed, .int (iI (rs.length : Int))]) (h2 : EDok G H0 ed rs cap) (hn : rs.length = xs.length ∧ rs.length ≤ 100000) (hst : ∀ (i r : Nat) (x : List Int), rs[i]? = some r → xs[i]? = some x → St G P H0 r x) (hy : St G P' H0 y ys) {mc ms : Nat}  : zR G l yJ2_indexOf (ws_ yJ2_indexOf cJ2_indexOf 2 (some FieldType.int)) 3 69 mc ms [.ref a, .ref y] H0 (fun r _ => r = .int (iI (fix1 (fun x => decide (ys = x)) xs 0))) (Pur H0) := by
  refine zR.start (cc := cJ2_indexOf) (by decide) (Nat.le_of_ble_eq_true rfl) ?_
  intro p e s m args below meth c Q cx hQ hmn ls hl
  have hx := cx.1
  have hb := cx.2.1
  have hS : va_S (Pur H0) H0 H0 [] := va_S.rf
  have hl : lv_has ls 2 [(0, .ref a), (1, .ref y)] := hl
  refine lv_aload_n hx hb dJ2_indexOf_0 rfl (lv_at hl 0 rfl) ?_
  refine lv_aload_n hx hb dJ2_indexOf_1 rfl (lv_at hl 1 rfl) ?_
  refine lv_iconst (v := iI (0)) hx hb dJ2_indexOf_2 rfl ?_
  refine lv_aload_n hx hb dJ2_indexOf_3 rfl (lv_at hl 0 rfl) ?_
  refine z_get cx (k0 := 2) h rfl in_J2 (by decide) q89 rfl rfl dJ2_indexOf_4 ?_
  refine z_callV cx (j := 3) (m_J2_indexOfRange G l _ P P' a ed cap y u0 rs xs ys (hB.ext (Ext.ofS hS)) (h.ext (Ext.ofS hS)) (h2.ext (Ext.ofS hS)) hn (fun i r x h1 h2 => (hst i r x h1 h2).ext (Ext.ofS hS)) (hy.ext (Ext.ofS hS)) (mc := 0) (ms := 0)) (lw_V q1073 q1074 q1075 q35 q1076) (zrecv cx h rfl) (by decide +kernel) rfl (rest := []) rfl hl (Nat.le_of_ble_eq_true rfl) (by decide) (by omega) dJ2_indexOf_7 hS (fun q h => Nat.le_trans hS.1 h) (fun v7 H locs hp7 hz9 hk9 hS => ?_)
  have hE9 := Ext.of hz9 hk9 (fun q h => h)
  subst hp7
  exact z_iret cx hQ rfl rfl rfl hS (by omega) dJ2_indexOf_10
set_option maxHeartbeats 4000000 in
set_option maxRecDepth 100000 in
theorem m_J2_contains (G : zE) (l : Launch) (H0 : Heap) (P P' : Nat → Prop) (a ed cap y : Nat) (u0 : Value) (rs : List Nat) (xs : List (List Int)) (ys : List Int) (hB : Bh G H0) (h : Ob G H0 a 8 [u0, .ref ed, .int (iI (rs.length : Int))]) (h2 : EDok G H0 ed rs cap) (hn : rs.length = xs.length ∧ rs.length ≤ 100000) (hst : ∀ (i r : Nat) (x : List Int), rs[i]? = some r → xs[i]? = some x → St G P H0 r x) (hy : St G P' H0 y ys) {mc ms : Nat}  : zR G l yJ2_contains (ws_ yJ2_contains cJ2_contains 2 (some FieldType.boolean)) 4 90 mc ms [.ref a, .ref y] H0 (fun r _ => r = .int (iI (b2i (decide (0 ≤ fix1 (fun x => decide (ys = x)) xs 0))))) (Pur H0) := by
  refine zR.start (cc := cJ2_contains) (by decide) (Nat.le_of_ble_eq_true rfl) ?_
  intro p e s m args below meth c Q cx hQ hmn ls hl
  have hx := cx.1
  have hb := cx.2.1
  have hS : va_S (Pur H0) H0 H0 [] := va_S.rf
  have hl : lv_has ls 2 [(0, .ref a), (1, .ref y)] := hl
  refine lv_aload_n hx hb dJ2_contains_0 rfl (lv_at hl 0 rfl) ?_
  refine lv_aload_n hx hb dJ2_contains_1 rfl (lv_at hl 1 rfl) ?_
  have hrg := fix1_rg (fun x => decide (ys = x)) xs 0
  refine z_callV cx (j := 1) (m_J2_indexOf G l _ P P' a ed cap y u0 rs xs ys (hB.ext (Ext.ofS hS)) (h.ext (Ext.ofS hS)) (h2.ext (Ext.ofS hS)) hn (fun i r x h1 h2 => (hst i r x h1 h2).ext (Ext.ofS hS)) (hy.ext (Ext.ofS hS)) (mc := 0) (ms := 0)) (lw_V q1069 q1070 q1071 q35 q1072) (zrecv cx h rfl) (by decide +kernel) rfl (rest := []) rfl hl (Nat.le_of_ble_eq_true rfl) (by decide) (by omega) dJ2_contains_2 hS (fun q h => Nat.le_trans hS.1 h) (fun v2 H locs hp2 hz9 hk9 hS => ?_)
  have hE9 := Ext.of hz9 hk9 (fun q h => h)
  subst hp2
  refine z_if_lt cx (tgt := 12) dJ2_contains_5 (by decide) (by omega) (fun c5 => ?_) (fun c5 => ?_)
  · refine lv_iconst (v := iI (0)) hx hb dJ2_contains_12 rfl ?_
    exact z_iret cx hQ rfl rfl (by rw [decide_eq_false (by omega)]; rfl) hS (by omega) dJ2_contains_13
  · refine lv_iconst (v := iI (1)) hx hb dJ2_contains_8 rfl ?_
    refine lv_goto (tgt := 13) hx hb dJ2_contains_9 (by decide) ?_
    exact z_iret cx hQ rfl rfl (by rw [decide_eq_true (by omega)]; rfl) hS (by omega) dJ2_contains_13
set_option maxHeartbeats 4000000 in
set_option maxRecDepth 100000 in
theorem m_J18_equals (G : zE) (l : Launch) (H0 : Heap) (P P' : Nat → Prop) (a d : Nat) (xs ys : List Int) (hB : Bh G H0) (h : St G P H0 a xs) (h2 : St G P' H0 d ys) {mc ms : Nat}  : zR G l yJ18_equals (ws_ yJ18_equals cJ18_equals 2 (some FieldType.boolean)) 2 44 mc ms [.ref a, .ref d] H0 (fun r _ => r = .int (iI (b2i (decide (xs = ys))))) (Pur H0) := by
  refine zR.start (cc := cJ18_equals) (by decide) (Nat.le_of_ble_eq_true rfl) ?_
  intro p e s m args below meth c Q cx hQ hmn ls hl
  have hx := cx.1
  have hb := cx.2.1
  have hS : va_S (Pur H0) H0 H0 [] := va_S.rf
  have hl : lv_has ls 2 [(0, .ref a), (1, .ref d)] := hl
  have huq : a = d → xs = ys := fun e => by subst e; exact h.uniq h2
  have h3 := h
  obtain ⟨-, -, -, b, -, hs, -⟩ := h3
  refine lv_aload_n hx hb dJ18_equals_0 rfl (lv_at hl 0 rfl) ?_
  refine lv_aload_n hx hb dJ18_equals_1 rfl (lv_at hl 1 rfl) ?_
  refine lv_acmp_eq (rx := (some a)) (ry := (some d)) (tgt := 17) hx hb dJ18_equals_2 (by decide) (fun c2 => ?_) (fun c2 => ?_)
  · have h9 := huq (Option.some.inj c2)
    refine lv_iconst (v := iI (1)) hx hb dJ18_equals_17 rfl ?_
    refine lv_goto (tgt := 22) hx hb dJ18_equals_18 (by decide) ?_
    exact z_iret cx hQ rfl rfl (by rw [decide_eq_true h9]; rfl) hS (by omega) dJ18_equals_22
  · refine lv_aload_n hx hb dJ18_equals_5 rfl (lv_at hl 0 rfl) ?_
    refine lv_ifnull hx hb dJ18_equals_6 ?_
    refine lv_aload_n hx hb dJ18_equals_9 rfl (lv_at hl 0 rfl) ?_
    refine lv_aload_n hx hb dJ18_equals_10 rfl (lv_at hl 1 rfl) ?_
    refine z_callO cx (j := 1) (m_J5_equals G l _ P P' a d xs ys (hB.ext (Ext.ofS hS)) (h.ext (Ext.ofS hS)) (h2.ext (Ext.ofS hS)) (mc := 0) (ms := 0)) (lw_O q962 q964 q963 q978 q628 q40 q630) q980 (zrecvS cx hs) (by decide +kernel) rfl (rest := []) rfl hl (Nat.le_of_ble_eq_true rfl) (by decide) (by omega) dJ18_equals_11 hS (fun q h => Nat.le_trans hS.1 h) (fun v11 H locs hp11 hz9 hk9 hS => ?_)
    have hE9 := Ext.of hz9 hk9 (fun q h => h)
    have hb11 := b2i_rg (decide (xs = ys))
    subst hp11
    refine z_if_eq cx (tgt := 21) dJ18_equals_14 (by decide) (by omega) (fun c14 => ?_) (fun c14 => ?_)
    · refine lv_iconst (v := iI (0)) hx hb dJ18_equals_21 rfl ?_
      exact z_iret cx hQ rfl rfl (by have h9 := b2i_F c14; rw [decide_eq_false h9]; rfl) hS (by omega) dJ18_equals_22
    · refine lv_iconst (v := iI (1)) hx hb dJ18_equals_17 rfl ?_
      refine lv_goto (tgt := 22) hx hb dJ18_equals_18 (by decide) ?_
      exact z_iret cx hQ rfl rfl (by have h9 := b2i_T c14; rw [decide_eq_true h9]; rfl) hS (by omega) dJ18_equals_22
set_option maxHeartbeats 4000000 in
set_option maxRecDepth 100000 in
theorem m_J2_checkForComodification (G : zE) (l : Launch) (H0 : Heap) (a : Nat) (mz : Int) (u1 u2 : Value) (h : Ob G H0 a 8 [.int (iI mz), u1, u2]) (hz : rg mz) {mc ms : Nat}  : zV G l yJ2_checkForComodification (ws_ yJ2_checkForComodification cJ2_checkForComodification 2 (none)) 0 0 mc ms [.ref a, .int (iI mz)] H0 (fun _ => True) (Pur H0) := by
  refine zV.start (cc := cJ2_checkForComodification) (by decide) (Nat.le_of_ble_eq_true rfl) ?_
  intro p e s m args below meth c Q cx hQ hmn ls hl
  have hx := cx.1
  have hb := cx.2.1
  have hS : va_S (Pur H0) H0 H0 [] := va_S.rf
  have hl : lv_has ls 2 [(0, .ref a), (1, .int (iI mz))] := hl
  refine lv_aload_n hx hb dJ2_checkForComodification_0 rfl (lv_at hl 0 rfl) ?_
  refine z_getU cx (k0 := 0) h rfl in_J2 (by decide) q93 q92 rfl dJ2_checkForComodification_1 ?_
  refine lv_iload_n hx hb dJ2_checkForComodification_4 rfl (lv_at hl 1 rfl) ?_
  refine z_icmp_eq cx (tgt := 16) dJ2_checkForComodification_5 (by decide) (by omega) (fun c5 => ?_) (fun c5 => (by exfalso; exact c5 rfl))
  exact z_vret cx hQ rfl trivial hS (by omega) dJ2_checkForComodification_16
set_option maxHeartbeats 4000000 in
set_option maxRecDepth 100000 in
theorem m_J2_equalsArrayList (G : zE) (l : Launch) (H0 : Heap) (P P' : Nat → Prop) (a ed cap a' ed' cap' : Nat) (u0 : Value) (mz : Int) (hz : rg mz) (rs rs' : List Nat) (xs xs' : List (List Int)) (hB : Bh G H0) (h : Ob G H0 a 8 [u0, .ref ed, .int (iI (rs.length : Int))]) (h2 : EDok G H0 ed rs cap) (hn : (rs.length = xs.length ∧ rs.length ≤ 100000) ∧ cap ≤ 100000 ∧ cap' ≤ 100000) (hst : ∀ (i r : Nat) (x : List Int), rs[i]? = some r → xs[i]? = some x → St G P H0 r x) (h' : Ob G H0 a' 8 [.int (iI mz), .ref ed', .int (iI (rs'.length : Int))]) (h2' : EDok G H0 ed' rs' cap') (hn' : rs'.length = xs'.length ∧ rs'.length ≤ 100000) (hst' : ∀ (i r : Nat) (x : List Int), rs'[i]? = some r → xs'[i]? = some x → St G P' H0 r x) {mc ms : Nat}  : zR G l yJ2_equalsArrayList (ws_ yJ2_equalsArrayList cJ2_equalsArrayList 8 (some FieldType.boolean)) 3 65 mc ms [.ref a, .ref a'] H0 (fun r _ => r = .int (iI (b2i (decide (xs = xs'))))) (Pur H0) := by
  refine zR.start (cc := cJ2_equalsArrayList) (by decide) (Nat.le_of_ble_eq_true rfl) ?_
  intro p e s m args below meth c Q cx hQ hmn ls hl
  have hx := cx.1
  have hb := cx.2.1
  have hS : va_S (Pur H0) H0 H0 [] := va_S.rf
  have hl : lv_has ls 8 [(0, .ref a), (1, .ref a')] := hl
  have hle := h2.le
  have hle' := h2'.le
  have lx : ∀ (fuel : Nat) (z : Int), 0 < fuel → (z = b2i (decide (xs = xs'))) → ∀ (H : Heap) (locs : List Loc) (ls : Array Slot) (k n : Nat), va_S (Pur H0) H0 H locs → (k ≤ mc) → (n ≤ ms) → lv_has ls 8 [(0, .ref a), (1, .ref a'), (2, .int (iI mz)), (3, .int (iI ↑rs.length)), (4, .int (iI z))] → W p l e ⟨3, mc, ms, 65⟩ s m args below meth c H locs k n Q (F0 m 100 ls []) := by
    intro fuel
    induction fuel with
    | zero => intro z hf9; exact absurd hf9 (Nat.not_lt_zero _)
    | succ fuel ih_lx =>
      intro z hf9 he H locs ls k n hS  hr1 hr2 hl
      refine lv_aload_n hx hb dJ2_equalsArrayList_100 rfl (lv_at hl 1 rfl) ?_
      refine lv_iload_n hx hb dJ2_equalsArrayList_101 rfl (lv_at hl 2 rfl) ?_
      refine z_callVv cx (j := 1) (m_J2_checkForComodification G l _ a' mz (.ref ed') (.int (iI (rs'.length : Int))) (h'.ext (Ext.ofS hS)) hz (mc := 0) (ms := 0)) (lw_V q981 q983 qs17 q35 q984) (zrecv cx (h'.ext (Ext.ofS hS)) rfl) (by decide +kernel) rfl (rest := []) rfl hl (Nat.le_of_ble_eq_true rfl) (by decide) (by omega) dJ2_equalsArrayList_102 hS (fun q h => Nat.le_trans hS.1 h) (fun H locs hp102 hz9 hk9 hS => ?_)
      have hE9 := Ext.of hz9 hk9 (fun q h => h)
      skip
      refine lv_iload hx hb dJ2_equalsArrayList_105 (lv_at hl 4 rfl) ?_
      exact z_iret cx hQ rfl (by rw [he]; exact b2i_nar _) (by rw [he]) hS (by omega) dJ2_equalsArrayList_107
  refine lv_aload_n hx hb dJ2_equalsArrayList_0 rfl (lv_at hl 1 rfl) ?_
  refine z_getU cx (k0 := 0) h' rfl in_J2 (by decide) q93 q92 rfl dJ2_equalsArrayList_1 ?_
  refine lv_istore_n (lv' := [(2, .int (iI mz)), (0, .ref a), (1, .ref a')]) hx hb dJ2_equalsArrayList_4 rfl hl (by decide) rfl (fun ls hl => ?_)
  refine lv_aload_n hx hb dJ2_equalsArrayList_5 rfl (lv_at hl 1 rfl) ?_
  refine z_get cx (k0 := 2) h rfl in_J2 (by decide) q89 rfl rfl dJ2_equalsArrayList_6 ?_
  refine lv_istore_n (lv' := [(3, .int (iI ↑rs.length)), (2, .int (iI mz)), (0, .ref a), (1, .ref a')]) hx hb dJ2_equalsArrayList_9 rfl hl (by decide) rfl (fun ls hl => ?_)
  refine lv_iload_n hx hb dJ2_equalsArrayList_10 rfl (lv_at hl 0 rfl) ?_
  refine lv_aload_n hx hb dJ2_equalsArrayList_11 rfl (lv_at hl 3 rfl) ?_
  refine z_get cx (k0 := 2) h' rfl in_J2 (by decide) q89 rfl rfl dJ2_equalsArrayList_12 ?_
  refine z_icmp_ne cx (tgt := 22) dJ2_equalsArrayList_15 (by decide) (by omega) (fun c15 => ?_) (fun c15 => ?_)
  · have hne : ¬ xs = xs' := fun e => c15 (by rw [hn.1.1, hn'.1, e])
    refine lv_iconst (v := iI (0)) hx hb dJ2_equalsArrayList_22 rfl ?_
    refine lv_dup hx hb dJ2_equalsArrayList_23 rfl ?_
    refine lv_istore (lv' := [(4, .int (iI 0)), (3, .int (iI ↑rs.length)), (2, .int (iI mz)), (0, .ref a), (1, .ref a')]) hx hb dJ2_equalsArrayList_24 hl (by decide) rfl (fun ls hl => ?_)
    refine z_if_eq cx (tgt := 100) dJ2_equalsArrayList_26 (by decide) (by omega) (fun c26 => ?_) (fun c26 => (by exfalso; omega))
    exact lx _ 0 (Nat.lt_succ_self _) (by rw [decide_eq_false hne]; rfl) _ _ _ _ _ hS  (by omega) (by omega) (lv_sub hl [3, 4, 2, 1, 0] rfl)
  · refine lv_iconst (v := iI (1)) hx hb dJ2_equalsArrayList_18 rfl ?_
    refine lv_goto (tgt := 23) hx hb dJ2_equalsArrayList_19 (by decide) ?_
    refine lv_dup hx hb dJ2_equalsArrayList_23 rfl ?_
    refine lv_istore (lv' := [(4, .int (iI 1)), (3, .int (iI ↑rs.length)), (2, .int (iI mz)), (0, .ref a), (1, .ref a')]) hx hb dJ2_equalsArrayList_24 hl (by decide) rfl (fun ls hl => ?_)
    refine z_if_eq cx (tgt := 100) dJ2_equalsArrayList_26 (by decide) (by omega) (fun c26 => (by exfalso; omega)) (fun c26 => ?_)
    refine lv_aload_n hx hb dJ2_equalsArrayList_29 rfl (lv_at hl 4 rfl) ?_
    refine z_get cx (k0 := 1) h' rfl in_J2 (by decide) q86 rfl rfl dJ2_equalsArrayList_30 ?_
    refine lv_astore (lv' := [(5, .ref ed'), (4, .int (iI 1)), (3, .int (iI ↑rs.length)), (2, .int (iI mz)), (0, .ref a), (1, .ref a')]) hx hb dJ2_equalsArrayList_33 hl (by decide) rfl (fun ls hl => ?_)
    refine lv_aload_n hx hb dJ2_equalsArrayList_35 rfl (lv_at hl 4 rfl) ?_
    refine z_get cx (k0 := 1) h rfl in_J2 (by decide) q86 rfl rfl dJ2_equalsArrayList_36 ?_
    refine lv_astore (lv' := [(6, .ref ed), (5, .ref ed'), (4, .int (iI 1)), (3, .int (iI ↑rs.length)), (2, .int (iI mz)), (0, .ref a), (1, .ref a')]) hx hb dJ2_equalsArrayList_39 hl (by decide) rfl (fun ls hl => ?_)
    refine lv_iload_n hx hb dJ2_equalsArrayList_41 rfl (lv_at hl 3 rfl) ?_
    refine lv_aload hx hb dJ2_equalsArrayList_42 (lv_at hl 0 rfl) ?_
    refine z_alenE cx hB h2 dJ2_equalsArrayList_44 ?_
    refine z_icmp_gt cx (tgt := 55) dJ2_equalsArrayList_45 (by decide) (by omega) (fun c45 => (by exfalso; omega)) (fun c45 => ?_)
    refine lv_iload_n hx hb dJ2_equalsArrayList_48 rfl (lv_at hl 3 rfl) ?_
    refine lv_aload hx hb dJ2_equalsArrayList_49 (lv_at hl 1 rfl) ?_
    refine z_alenE cx hB h2' dJ2_equalsArrayList_51 ?_
    refine z_icmp_le cx (tgt := 63) dJ2_equalsArrayList_52 (by decide) (by omega) (fun c52 => ?_) (fun c52 => (by exfalso; omega))
    refine lv_iconst (v := iI (0)) hx hb dJ2_equalsArrayList_63 rfl ?_
    refine lv_istore (lv' := [(7, .int (iI 0)), (6, .ref ed), (5, .ref ed'), (4, .int (iI 1)), (3, .int (iI ↑rs.length)), (2, .int (iI mz)), (0, .ref a), (1, .ref a')]) hx hb dJ2_equalsArrayList_64 hl (by decide) rfl (fun ls hl => ?_)
    have lp : ∀ (fuel : Nat) (j : Nat), (xs.length - j) < fuel → (j ≤ xs.length) → ((xs = xs') ↔ xs.drop j = xs'.drop j) → ∀ (H : Heap) (locs : List Loc) (ls : Array Slot) (k n : Nat), va_S (Pur H0) H0 H locs → (k ≤ mc) → (n ≤ ms) → lv_has ls 8 [(0, .ref a), (1, .ref a'), (2, .int (iI mz)), (3, .int (iI ↑rs.length)), (4, .int (iI 1)), (5, .ref ed'), (6, .ref ed), (7, .int (iI ↑j))] → W p l e ⟨3, mc, ms, 65⟩ s m args below meth c H locs k n Q (F0 m 66 ls []) := by
      intro fuel
      induction fuel with
      | zero => intro j hf9; exact absurd hf9 (Nat.not_lt_zero _)
      | succ fuel ih_lp =>
        intro j hf9 hj he H locs ls k n hS  hr1 hr2 hl
        refine lv_iload hx hb dJ2_equalsArrayList_66 (lv_at hl 7 rfl) ?_
        refine lv_iload_n hx hb dJ2_equalsArrayList_68 rfl (lv_at hl 3 rfl) ?_
        refine z_icmp_ge cx (tgt := 100) dJ2_equalsArrayList_69 (by decide) (by omega) (fun c69 => ?_) (fun c69 => ?_)
        · rw [List.drop_eq_nil_of_le (show xs.length ≤ j by omega), List.drop_eq_nil_of_le (show xs'.length ≤ j by omega)] at he
          exact lx _ 1 (Nat.lt_succ_self _) (by rw [decide_eq_true (he.mpr rfl)]; rfl) _ _ _ _ _ hS  (by omega) (by omega) (lv_sub hl [0, 1, 2, 3, 4] rfl)
        · refine lv_aload hx hb dJ2_equalsArrayList_72 (lv_at hl 6 rfl) ?_
          refine lv_iload hx hb dJ2_equalsArrayList_74 (lv_at hl 7 rfl) ?_
          refine z_aaldE cx (h2.ext (Ext.ofS hS)) (j) (by omega) dJ2_equalsArrayList_76 (fun w hw => ?_)
          refine lv_aload hx hb dJ2_equalsArrayList_77 (lv_at hl 5 rfl) ?_
          refine lv_iload hx hb dJ2_equalsArrayList_79 (lv_at hl 7 rfl) ?_
          refine z_aaldE cx (h2'.ext (Ext.ofS hS)) (j) (by omega) dJ2_equalsArrayList_81 (fun w' hw' => ?_)
          obtain ⟨x, hx5⟩ : ∃ x, xs[j]? = some x := ⟨_, List.getElem?_eq_getElem (by omega)⟩
          obtain ⟨x', hx5'⟩ : ∃ x, xs'[j]? = some x := ⟨_, List.getElem?_eq_getElem (by omega)⟩
          have hed : xs.drop j = xs'.drop j ↔ x = x' ∧ xs.drop (j + 1) = xs'.drop (j + 1) := by rw [drop_s hx5, drop_s hx5', List.cons.injEq]
          refine z_callS cx (j := 2) (m_J18_equals G l _ P P' w w' x x' (hB.ext (Ext.ofS hS)) ((hst j w x hw hx5).ext (Ext.ofS hS)) ((hst' j w' x' hw' hx5').ext (Ext.ofS hS)) (mc := 0) (ms := 0)) (lw_S q958 q959 q54 q960) (by decide +kernel) rfl (rest := []) rfl hl (Nat.le_of_ble_eq_true rfl) (by decide) (by omega) dJ2_equalsArrayList_82 hS (fun q h => Nat.le_trans hS.1 h) (fun v82 H locs hp82 hz9 hk9 hS => ?_)
          have hE9 := Ext.of hz9 hk9 (fun q h => h)
          have hb82 := b2i_rg (decide (x = x'))
          subst hp82
          refine z_if_ne cx (tgt := 94) dJ2_equalsArrayList_85 (by decide) (by omega) (fun c85 => ?_) (fun c85 => ?_)
          · have heq := b2i_T c85
            refine z_iinc cx (j := 7) (z := ((j + 1 : Nat) : Int)) (lv' := [(7, .int (iI ((j + 1 : Nat) : Int))), (0, .ref a), (1, .ref a'), (2, .int (iI mz)), (3, .int (iI ↑rs.length)), (4, .int (iI 1)), (5, .ref ed'), (6, .ref ed)]) dJ2_equalsArrayList_94 hl rfl (by omega) (by decide) rfl (fun ls hl => ?_)
            refine lv_goto (tgt := 66) hx hb dJ2_equalsArrayList_97 (by decide) ?_
            exact ih_lp (j + 1) (by omega) (by omega) (by rw [he, hed]; exact ⟨fun z => z.2, fun z => ⟨heq, z⟩⟩) _ _ _ _ _ hS  (by omega) (by omega) (lv_sub hl [1, 2, 3, 4, 5, 6, 7, 0] rfl)
          · have hne := b2i_F c85
            have hne2 : ¬ xs = xs' := fun z => hne (hed.mp (he.mp z)).1
            refine lv_iconst (v := iI (0)) hx hb dJ2_equalsArrayList_88 rfl ?_
            refine lv_istore (lv' := [(4, .int (iI 0)), (0, .ref a), (1, .ref a'), (2, .int (iI mz)), (3, .int (iI ↑rs.length)), (5, .ref ed'), (6, .ref ed), (7, .int (iI ↑j))]) hx hb dJ2_equalsArrayList_89 hl (by decide) rfl (fun ls hl => ?_)
            refine lv_goto (tgt := 100) hx hb dJ2_equalsArrayList_91 (by decide) ?_
            exact lx _ 0 (Nat.lt_succ_self _) (by rw [decide_eq_false hne2]; rfl) _ _ _ _ _ hS  (by omega) (by omega) (lv_sub hl [1, 2, 3, 4, 0] rfl)
    exact lp _ 0 (Nat.lt_succ_self _) (Nat.zero_le _) (by rw [List.drop_zero, List.drop_zero]) _ _ _ _ _ hS  (by omega) (by omega) (lv_sub hl [6, 7, 5, 4, 3, 2, 1, 0] rfl)
