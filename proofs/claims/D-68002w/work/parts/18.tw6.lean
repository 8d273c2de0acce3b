/-! ===== the model: lists alike, a name's value ===== -/
set_option maxHeartbeats 4000000 in
set_option maxRecDepth 100000 in
theorem m_X4_sameList (G : zE) (l : Launch) (H0 : Heap) (P1 P2 : Nat → Prop) (a b : Nat) (xs ys : List (List Int)) (ha : Rq G P1 H0 a (xs.map some)) (hb9 : Rq G P2 H0 b (ys.map some)) (hcx : ∀ x ∈ xs, chs x ∧ x.length ≤ 100000) (hcy : ∀ y ∈ ys, chs y ∧ y.length ≤ 100000) (hn : xs.length ≤ 100000 ∧ ys.length ≤ 100000) {mc ms : Nat}  : zR G l yX4_sameList (ws_ yX4_sameList cX4_sameList 3 (some FieldType.boolean)) 1 22 mc ms [.ref a, .ref b] H0 (fun r _ => r = .int (iI (b2i (decide (xs = ys))))) (Pur H0) := by
  refine zR.start (cc := cX4_sameList) (by decide) (Nat.le_of_ble_eq_true rfl) ?_
  intro p e s m args below meth c Q cx hQ hmn ls hl
  have hx := cx.1
  have hb := cx.2.1
  have hS : va_S (Pur H0) H0 H0 [] := va_S.rf
  have hl : lv_has ls 3 [(0, .ref a), (1, .ref b)] := hl
  obtain ⟨ra, -, hAa, hOa⟩ := ha.ors
  obtain ⟨rb, -, hAb, hOb⟩ := hb9.ors
  have hla : ra.length = xs.length := by rw [hOa.1, List.length_map]
  have hlb : rb.length = ys.length := by rw [hOb.1, List.length_map]
  refine lv_aload_n hx hb dX4_sameList_0 rfl (lv_at hl 0 rfl) ?_
  refine z_alenQ cx (t0 := 5) hAa rfl dX4_sameList_1 ?_
  refine lv_aload_n hx hb dX4_sameList_2 rfl (lv_at hl 1 rfl) ?_
  refine z_alenQ cx (t0 := 5) hAb rfl dX4_sameList_3 ?_
  refine z_icmp_eq cx (tgt := 9) dX4_sameList_4 (by decide) (by omega) (fun c4 => ?_) (fun c4 => ?_)
  · refine lv_iconst (v := iI (0)) hx hb dX4_sameList_9 rfl ?_
    refine lv_istore_n (lv' := [(2, .int (iI 0)), (0, .ref a), (1, .ref b)]) hx hb dX4_sameList_10 rfl hl (by decide) rfl (fun ls hl => ?_)
    have lp : ∀ (fuel : Nat) (j : Nat), (xs.length - j) < fuel → (j ≤ xs.length) → (xs = ys ↔ xs.drop j = ys.drop j) → ∀ (H : Heap) (locs : List Loc) (ls : Array Slot) (k n : Nat), va_S (Pur H0) H0 H locs → (k ≤ mc) → (n ≤ ms) → lv_has ls 3 [(0, .ref a), (1, .ref b), (2, .int (iI ↑j))] → W p l e ⟨1, mc, ms, 22⟩ s m args below meth c H locs k n Q (F0 m 11 ls []) := by
      intro fuel
      induction fuel with
      | zero => intro j hf9; exact absurd hf9 (Nat.not_lt_zero _)
      | succ fuel ih_lp =>
        intro j hf9 hj hd H locs ls k n hS  hr1 hr2 hl
        refine lv_iload_n hx hb dX4_sameList_11 rfl (lv_at hl 2 rfl) ?_
        refine lv_aload_n hx hb dX4_sameList_12 rfl (lv_at hl 0 rfl) ?_
        refine z_alenQ cx (t0 := 5) (hAa.ext (Ext.ofS hS)) rfl dX4_sameList_13 ?_
        refine z_icmp_ge cx (tgt := 37) dX4_sameList_14 (by decide) (by omega) (fun c14 => ?_) (fun c14 => ?_)
        · have e1 : xs = ys := hd.mpr (by rw [List.drop_eq_nil_of_le (by omega), List.drop_eq_nil_of_le (by omega)])
          refine lv_iconst (v := iI (1)) hx hb dX4_sameList_37 rfl ?_
          exact z_iret cx hQ rfl rfl (by rw [decide_eq_true e1]; rfl) hS (by omega) dX4_sameList_38
        · refine lv_aload_n hx hb dX4_sameList_17 rfl (lv_at hl 0 rfl) ?_
          refine lv_iload_n hx hb dX4_sameList_18 rfl (lv_at hl 2 rfl) ?_
          refine z_aald cx (t0 := 5) (hAa.ext (Ext.ofS hS)) rfl rfl (j) (by omega) dX4_sameList_19 (fun x19 hx19 => ?_)
          have hjx : j < xs.length := by omega
          have hjy : j < ys.length := by omega
          have ex : xs[j]? = some xs[j] := List.getElem?_eq_getElem hjx
          have ey : ys[j]? = some ys[j] := List.getElem?_eq_getElem hjy
          obtain ⟨u, rfl, -, hAu⟩ := (hOa.2 j x19 (some xs[j]) hx19 (by rw [List.getElem?_map, ex]; rfl)).s
          refine lv_aload_n hx hb dX4_sameList_20 rfl (lv_at hl 1 rfl) ?_
          refine lv_iload_n hx hb dX4_sameList_21 rfl (lv_at hl 2 rfl) ?_
          refine z_aald cx (t0 := 5) (hAb.ext (Ext.ofS hS)) rfl rfl (j) (by omega) dX4_sameList_22 (fun x22 hx22 => ?_)
          obtain ⟨w, rfl, -, hAw⟩ := (hOb.2 j x22 (some ys[j]) hx22 (by rw [List.getElem?_map, ey]; rfl)).s
          have hcu := hcx _ (List.getElem_mem hjx)
          have hcw := hcy _ (List.getElem_mem hjy)
          refine z_callS cx (j := 2) (m_X4_same G l _ u w xs[j] ys[j] (hAu.ext (Ext.ofS hS)) (hAw.ext (Ext.ofS hS)) hcu.1 hcw.1 ⟨hcu.2, hcw.2⟩ (mc := 0) (ms := 0)) (lw_S q1247 q1248 q57 q1249) (by decide +kernel) rfl (rest := []) rfl hl (Nat.le_of_ble_eq_true rfl) (by decide) (by omega) dX4_sameList_23 hS (fun q h => Nat.le_trans hS.1 h) (fun v23 H locs hp23 hz9 hk9 hS => ?_)
          have hE9 := Ext.of hz9 hk9 (fun q h => h)
          have hb23 := b2i_rg (decide (xs[j] = ys[j]))
          subst hp23
          have hdd := drop_eqQ ex ey
          refine z_if_ne cx (tgt := 31) dX4_sameList_26 (by decide) (by omega) (fun c26 => ?_) (fun c26 => ?_)
          · have e2 : xs[j] = ys[j] := by by_cases h : xs[j] = ys[j]; exact h; rw [decide_eq_false h] at c26; exact absurd b2i_f c26
            refine z_iinc cx (j := 2) (z := ((j + 1 : Nat) : Int)) (lv' := [(2, .int (iI ((j + 1 : Nat) : Int))), (0, .ref a), (1, .ref b)]) dX4_sameList_31 hl rfl (by omega) (by decide) rfl (fun ls hl => ?_)
            refine lv_goto (tgt := 11) hx hb dX4_sameList_34 (by decide) ?_
            exact ih_lp (j + 1) (by omega) (by omega) (hd.trans (hdd.trans ⟨fun h => h.2, fun h => ⟨e2, h⟩⟩)) _ _ _ _ _ hS  (by omega) (by omega) (lv_sub hl [1, 2, 0] rfl)
          · have e2 : xs[j] ≠ ys[j] := by intro h; rw [decide_eq_true h] at c26; exact absurd c26 (by decide)
            refine lv_iconst (v := iI (0)) hx hb dX4_sameList_29 rfl ?_
            exact z_iret cx hQ rfl rfl (by rw [decide_eq_false (fun h => e2 (hdd.mp (hd.mp h)).1)]; rfl) hS (by omega) dX4_sameList_30
    exact lp _ 0 (Nat.lt_succ_self _) (by omega) Iff.rfl _ _ _ _ _ hS  (by omega) (by omega) (lv_sub hl [1, 2, 0] rfl)
  · refine lv_iconst (v := iI (0)) hx hb dX4_sameList_7 rfl ?_
    exact z_iret cx hQ rfl rfl (by rw [decide_eq_false (fun h => c4 (by rw [hla, hlb, h]))]; rfl) hS (by omega) dX4_sameList_8
set_option maxHeartbeats 4000000 in
set_option maxRecDepth 100000 in
theorem m_X4_alike_nn (G : zE) (l : Launch) (H0 : Heap)  {mc ms : Nat}  : zR G l yX4_alike (ws_ yX4_alike cX4_alike 2 (some FieldType.boolean)) 2 51 mc ms [.null, .null] H0 (fun r _ => r = .int (iI (b2i (alk none none)))) (Pur H0) := by
  refine zR.start (cc := cX4_alike) (by decide) (Nat.le_of_ble_eq_true rfl) ?_
  intro p e s m args below meth c Q cx hQ hmn ls hl
  have hx := cx.1
  have hb := cx.2.1
  have hS : va_S (Pur H0) H0 H0 [] := va_S.rf
  have hl : lv_has ls 2 [(0, .null), (1, .null)] := hl
  refine lv_aload_nN hx hb dX4_alike_0 rfl (lv_at hl 0 rfl) ?_
  refine lv_ifnullN (tgt := 8) hx hb dX4_alike_1 (by decide) ?_
  refine lv_aload_nN hx hb dX4_alike_8 rfl (lv_at hl 0 rfl) ?_
  refine lv_aload_nN hx hb dX4_alike_9 rfl (lv_at hl 1 rfl) ?_
  refine lv_acmp_ne (rx := none) (ry := none) (tgt := 17) hx hb dX4_alike_10 (by decide) (fun c10 => ?_) (fun c10 => ?_)
  · refine lv_iconst (v := iI (0)) hx hb dX4_alike_17 rfl ?_
    exact absurd rfl c10
  · refine lv_iconst (v := iI (1)) hx hb dX4_alike_13 rfl ?_
    refine lv_goto (tgt := 18) hx hb dX4_alike_14 (by decide) ?_
    exact z_iret cx hQ rfl rfl rfl hS (by omega) dX4_alike_18
set_option maxHeartbeats 4000000 in
set_option maxRecDepth 100000 in
theorem m_X4_alike_ns (G : zE) (l : Launch) (H0 : Heap) (b : Nat) (y : List Int) {mc ms : Nat}  : zR G l yX4_alike (ws_ yX4_alike cX4_alike 2 (some FieldType.boolean)) 2 51 mc ms [.null, .ref b] H0 (fun r _ => r = .int (iI (b2i (alk none (some y))))) (Pur H0) := by
  refine zR.start (cc := cX4_alike) (by decide) (Nat.le_of_ble_eq_true rfl) ?_
  intro p e s m args below meth c Q cx hQ hmn ls hl
  have hx := cx.1
  have hb := cx.2.1
  have hS : va_S (Pur H0) H0 H0 [] := va_S.rf
  have hl : lv_has ls 2 [(0, .null), (1, .ref b)] := hl
  refine lv_aload_nN hx hb dX4_alike_0 rfl (lv_at hl 0 rfl) ?_
  refine lv_ifnullN (tgt := 8) hx hb dX4_alike_1 (by decide) ?_
  refine lv_aload_nN hx hb dX4_alike_8 rfl (lv_at hl 0 rfl) ?_
  refine lv_aload_n hx hb dX4_alike_9 rfl (lv_at hl 1 rfl) ?_
  refine lv_acmp_ne (rx := none) (ry := (some b)) (tgt := 17) hx hb dX4_alike_10 (by decide) (fun c10 => ?_) (fun c10 => ?_)
  · refine lv_iconst (v := iI (0)) hx hb dX4_alike_17 rfl ?_
    exact z_iret cx hQ rfl rfl rfl hS (by omega) dX4_alike_18
  · cases c10
set_option maxHeartbeats 4000000 in
set_option maxRecDepth 100000 in
theorem m_X4_alike_sn (G : zE) (l : Launch) (H0 : Heap) (a : Nat) (x : List Int) {mc ms : Nat}  : zR G l yX4_alike (ws_ yX4_alike cX4_alike 2 (some FieldType.boolean)) 2 51 mc ms [.ref a, .null] H0 (fun r _ => r = .int (iI (b2i (alk (some x) none)))) (Pur H0) := by
  refine zR.start (cc := cX4_alike) (by decide) (Nat.le_of_ble_eq_true rfl) ?_
  intro p e s m args below meth c Q cx hQ hmn ls hl
  have hx := cx.1
  have hb := cx.2.1
  have hS : va_S (Pur H0) H0 H0 [] := va_S.rf
  have hl : lv_has ls 2 [(0, .ref a), (1, .null)] := hl
  refine lv_aload_n hx hb dX4_alike_0 rfl (lv_at hl 0 rfl) ?_
  refine lv_ifnull hx hb dX4_alike_1 ?_
  refine lv_aload_nN hx hb dX4_alike_4 rfl (lv_at hl 1 rfl) ?_
  refine lv_ifnonnullN hx hb dX4_alike_5 ?_
  refine lv_aload_n hx hb dX4_alike_8 rfl (lv_at hl 0 rfl) ?_
  refine lv_aload_nN hx hb dX4_alike_9 rfl (lv_at hl 1 rfl) ?_
  refine lv_acmp_ne (rx := (some a)) (ry := none) (tgt := 17) hx hb dX4_alike_10 (by decide) (fun c10 => ?_) (fun c10 => ?_)
  · refine lv_iconst (v := iI (0)) hx hb dX4_alike_17 rfl ?_
    exact z_iret cx hQ rfl rfl rfl hS (by omega) dX4_alike_18
  · cases c10
set_option maxHeartbeats 4000000 in
set_option maxRecDepth 100000 in
theorem m_X4_alike_ss (G : zE) (l : Launch) (H0 : Heap) (a b : Nat) (x y : List Int) (ha : Ai G H0 a 101 x) (hb9 : Ai G H0 b 101 y) (hcx : chs x ∧ x.length ≤ 40000) (hcy : chs y ∧ y.length ≤ 40000) {mc ms : Nat} (hmc : x.length + y.length + 6 ≤ mc) (hms : 2 * x.length + 2 * y.length + 4 ≤ ms) : zR G l yX4_alike (ws_ yX4_alike cX4_alike 2 (some FieldType.boolean)) 2 51 mc ms [.ref a, .ref b] H0 (fun r _ => r = .int (iI (b2i (alk (some x) (some y))))) (Pur H0) := by
  refine zR.start (cc := cX4_alike) (by decide) (Nat.le_of_ble_eq_true rfl) ?_
  intro p e s m args below meth c Q cx hQ hmn ls hl
  have hx := cx.1
  have hb := cx.2.1
  have hS : va_S (Pur H0) H0 H0 [] := va_S.rf
  have hl : lv_has ls 2 [(0, .ref a), (1, .ref b)] := hl
  refine lv_aload_n hx hb dX4_alike_0 rfl (lv_at hl 0 rfl) ?_
  refine lv_ifnull hx hb dX4_alike_1 ?_
  refine lv_aload_n hx hb dX4_alike_4 rfl (lv_at hl 1 rfl) ?_
  refine lv_ifnonnull (tgt := 19) hx hb dX4_alike_5 (by decide) ?_
  refine lv_aload_n hx hb dX4_alike_19 rfl (lv_at hl 0 rfl) ?_
  refine z_callS cx (j := 1) (m_X4_list G l _ a x (ha.ext (Ext.ofS hS)) hcx.1 hcx.2 (mc := x.length + 3) (ms := 2 * x.length + 2) (Nat.le_refl _) (Nat.le_refl _)) (lw_S q1239 q1240 q57 q1241) (by decide +kernel) rfl (rest := []) rfl hl (Nat.le_of_ble_eq_true rfl) (by decide) (by omega) dX4_alike_20 hS (fun q h => Nat.le_trans hS.1 h) (fun v20 H locs hp20 hz9 hk9 hS => ?_)
  have hE9 := Ext.of hz9 hk9 (fun q h => h)
  obtain ⟨u, rfl, hu⟩ := hp20
  refine lv_aload_n hx hb dX4_alike_23 rfl (lv_at hl 1 rfl) ?_
  refine z_callS cx (j := 1) (m_X4_list G l _ b y (hb9.ext (Ext.ofS hS)) hcy.1 hcy.2 (mc := y.length + 3) (ms := 2 * y.length + 2) (Nat.le_refl _) (Nat.le_refl _)) (lw_S q1239 q1240 q57 q1241) (by decide +kernel) rfl (rest := [.ref u]) rfl hl (Nat.le_of_ble_eq_true rfl) (by decide) (by omega) dX4_alike_24 hS (fun q h => Nat.le_trans hS.1 h) (fun v24 H locs hp24 hz9 hk9 hS => ?_)
  have hE9 := Ext.of hz9 hk9 (fun q h => h)
  obtain ⟨w, rfl, hw⟩ := hp24
  have hu := hu.ext hE9
  have hlx := lst_len x
  have hly := lst_len y
  refine z_callS cx (j := 2) (m_X4_sameList G l _ _ _ u w (lst x) (lst y) hu hw (fun z hz => ⟨lst_chs hcx.1 z hz, Nat.le_trans (lst_mem_len hz) (by omega)⟩) (fun z hz => ⟨lst_chs hcy.1 z hz, Nat.le_trans (lst_mem_len hz) (by omega)⟩) ⟨by omega, by omega⟩ (mc := 0) (ms := 0)) (lw_S q1244 q1245 q57 q1246) (by decide +kernel) rfl (rest := []) rfl hl (Nat.le_of_ble_eq_true rfl) (by decide) (by omega) dX4_alike_27 hS (fun q h => Nat.le_trans hS.1 h) (fun v27 H locs hp27 hz9 hk9 hS => ?_)
  have hE9 := Ext.of hz9 hk9 (fun q h => h)
  have hb27 := b2i_rg (decide (lst x = lst y))
  subst hp27
  exact z_iret cx hQ rfl (b2i_nar _) rfl hS (by omega) dX4_alike_30
theorem m_X4_alike (G : zE) (l : Launch) (H0 : Heap) (P1 P2 : Nat → Prop) (r1 r2 : Option Nat) (v1 v2 : Option (List Int)) (h1 : Orw G P1 H0 r1 v1) (h2 : Orw G P2 H0 r2 v2) (hc1 : ochs v1 ∧ olen v1 40000) (hc2 : ochs v2 ∧ olen v2 40000) {mc ms : Nat} (hmc : alC v1 v2 ≤ mc) (hms : alS v1 v2 ≤ ms) : zR G l yX4_alike (ws_ yX4_alike cX4_alike 2 (some FieldType.boolean)) 2 51 mc ms [va_rf r1, va_rf r2] H0 (fun r _ => r = .int (iI (b2i (alk v1 v2)))) (Pur H0) := by
  cases v1 with
  | none =>
    rw [h1.n]
    cases v2 with
    | none => rw [h2.n]; exact m_X4_alike_nn G l H0
    | some y => obtain ⟨b, rfl, -, hb⟩ := h2.s; exact m_X4_alike_ns G l H0 b y
  | some x =>
    obtain ⟨a, rfl, -, ha⟩ := h1.s
    cases v2 with
    | none => rw [h2.n]; exact m_X4_alike_sn G l H0 a x
    | some y => obtain ⟨b, rfl, -, hb⟩ := h2.s; exact m_X4_alike_ss G l H0 a b x y ha hb ⟨hc1.1 x rfl, hc1.2 x rfl⟩ ⟨hc2.1 y rfl, hc2.2 y rfl⟩ hmc hms
