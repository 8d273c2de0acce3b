/-! ===== the JDK: boxed ints, lists compared ===== -/
set_option maxHeartbeats 4000000 in
set_option maxRecDepth 100000 in
theorem m_J16_init (G : zE) (l : Launch) (H0 : Heap) (a : Nat) (u0 : Value) (h : Ob G H0 a 11 [u0]) {mc ms : Nat}  : zV G l yJ16_init (ws_ yJ16_init cJ16_init 1 (none)) 1 20 mc ms [.ref a] H0 (fun H1 => Ob G H1 a 11 [u0]) (fun q => H0.size ≤ q ∨ q = a) := by
  refine zV.start (cc := cJ16_init) (by decide) (Nat.le_of_ble_eq_true rfl) ?_
  intro p e s m args below meth c Q cx hQ hmn ls hl
  have hx := cx.1
  have hb := cx.2.1
  have hS : va_S (fun q => H0.size ≤ q ∨ q = a) H0 H0 [] := va_S.rf
  have hl : lv_has ls 1 [(0, .ref a)] := hl
  refine lv_aload_n hx hb dJ16_init_0 rfl (lv_at hl 0 rfl) ?_
  refine z_obj cx q660 q70 q71 hl (Nat.le_of_ble_eq_true rfl) (by decide) dJ16_init_1 ?_
  exact z_vret cx hQ rfl h hS (by omega) dJ16_init_4
set_option maxHeartbeats 4000000 in
set_option maxRecDepth 100000 in
theorem m_J17_init (G : zE) (l : Launch) (H0 : Heap) (a : Nat) (u0 : Value) (v : Int) (h : Ob G H0 a 11 [u0]) {mc ms : Nat}  : zV G l yJ17_init (ws_ yJ17_init cJ17_init 2 (none)) 2 40 mc ms [.ref a, .int (iI v)] H0 (fun H1 => Ob G H1 a 11 [.int (iI v)]) (fun q => H0.size ≤ q ∨ q = a) := by
  refine zV.start (cc := cJ17_init) (by decide) (Nat.le_of_ble_eq_true rfl) ?_
  intro p e s m args below meth c Q cx hQ hmn ls hl
  have hx := cx.1
  have hb := cx.2.1
  have hS : va_S (fun q => H0.size ≤ q ∨ q = a) H0 H0 [] := va_S.rf
  have hl : lv_has ls 2 [(0, .ref a), (1, .int (iI v))] := hl
  refine lv_aload_n hx hb dJ17_init_0 rfl (lv_at hl 0 rfl) ?_
  refine z_callI cx (j := 0) (m_J16_init G l _ a u0 h (mc := 0) (ms := 0)) (lw_meth q659) q52 q657 q658 rfl (by decide +kernel) rfl (rest := []) rfl hl (Nat.le_of_ble_eq_true rfl) (by decide) (by omega) dJ17_init_1 hS (fun q h => by rcases h with h | h; exact Or.inl (Nat.le_trans hS.1 h); exact Or.inr h) (fun H locs hp1 hz9 hk9 hS => ?_)
  have h := hp1
  refine lv_aload_n hx hb dJ17_init_4 rfl (lv_at hl 0 rfl) ?_
  refine lv_iload_n hx hb dJ17_init_5 rfl (lv_at hl 1 rfl) ?_
  refine z_putF cx hmn (k0 := 0) (vs' := [.int (iI v)]) h (Or.inr rfl) hS rfl in_J17 tyJ17_ok nmJ17 (by decide) q661 rfl rfl rfl rfl (Nat.le_of_ble_eq_true rfl) ⟨rfl, rfl⟩ dJ17_init_6 (fun H locs h hz9 hq9 hS => ?_)
  exact z_vret cx hQ rfl h hS (by omega) dJ17_init_9
set_option maxHeartbeats 4000000 in
set_option maxRecDepth 100000 in
theorem m_J17_intValue (G : zE) (l : Launch) (H0 : Heap) (P : Nat → Prop) (a : Nat) (v : Int) (h : Nu G P H0 a v) {mc ms : Nat}  : zR G l yJ17_intValue (ws_ yJ17_intValue cJ17_intValue 1 (some FieldType.int)) 0 0 mc ms [.ref a] H0 (fun r _ => r = .int (iI v)) (Pur H0) := by
  refine zR.start (cc := cJ17_intValue) (by decide) (Nat.le_of_ble_eq_true rfl) ?_
  intro p e s m args below meth c Q cx hQ hmn ls hl
  have hx := cx.1
  have hb := cx.2.1
  have hS : va_S (Pur H0) H0 H0 [] := va_S.rf
  have hl : lv_has ls 1 [(0, .ref a)] := hl
  refine lv_aload_n hx hb dJ17_intValue_0 rfl (lv_at hl 0 rfl) ?_
  refine z_getI cx h q661 dJ17_intValue_1 ?_
  exact z_iret cx hQ rfl rfl rfl hS (by omega) dJ17_intValue_4
set_option maxHeartbeats 4000000 in
set_option maxRecDepth 100000 in
theorem m_J17_valueOf (G : zE) (l : Launch) (H0 : Heap) (v : Int) (hB : Bh G H0) (hv : -128 ≤ v ∧ v < 2000000) {mc ms : Nat} (hmc : 1 ≤ mc) (hms : 1 ≤ ms) : zR G l yJ17_valueOf (ws_ yJ17_valueOf cJ17_valueOf 1 (some (FieldType.object "java/lang/Integer"))) 3 61 mc ms [.int (iI v)] H0 (fun r H1 => ∃ a : Nat, r = .ref a ∧ Nu G (fun q => H0.size ≤ q ∨ q < G.2.heap.size) H1 a v) (Pur H0) := by
  refine zR.start (cc := cJ17_valueOf) (by decide) (Nat.le_of_ble_eq_true rfl) ?_
  intro p e s m args below meth c Q cx hQ hmn ls hl
  have hx := cx.1
  have hb := cx.2.1
  have hS : va_S (Pur H0) H0 H0 [] := va_S.rf
  have hl : lv_has ls 1 [(0, .int (iI v))] := hl
  obtain ⟨c9, ad, hz9, hT9, hN9⟩ := IC.ex cx.kk.1
  have slow : True := trivial
  refine lv_iload_n hx hb dJ17_valueOf_0 rfl (lv_at hl 0 rfl) ?_
  refine lv_bipush (v := iI (-128)) hx hb dJ17_valueOf_1 (by decide) ?_
  refine z_icmp_lt cx (tgt := 23) dJ17_valueOf_3 (by decide) (by omega) (fun c3 => (by exfalso; omega)) (fun c3 => ?_)
  refine lv_iload_n hx hb dJ17_valueOf_6 rfl (lv_at hl 0 rfl) ?_
  refine z_gets cx (ic_hi cx.kk) hB q648 dJ17_valueOf_7 ?_
  refine z_icmp_gt cx (tgt := 23) dJ17_valueOf_10 (by decide) (by omega) (fun c10 => ?_) (fun c10 => ?_)
  · refine z_new cx (ci := 11) (vs := [.int (iI 0)]) hS rfl in_J17 tyJ17_ok q652 q653 q53 (zdefJ17) (by omega) dJ17_valueOf_23 (fun a H ha hga Aa hz9 hE9 hS => ?_)
    refine lv_dup hx hb dJ17_valueOf_26 rfl ?_
    refine lv_iload_n hx hb dJ17_valueOf_27 rfl (lv_at hl 0 rfl) ?_
    refine z_callI cx (j := 1) (m_J17_init G l _ a (.int (iI 0)) v Aa (mc := 0) (ms := 0)) (lw_meth q656) q53 q654 q655 rfl (by decide +kernel) rfl (rest := [.ref a]) rfl hl (Nat.le_of_ble_eq_true rfl) (by decide) (by omega) dJ17_valueOf_28 hS (fun q h => by rcases h with h | h; exact Nat.le_trans hS.1 h; exact h ▸ hga) (fun H locs hp28 hz9 hk9 hS => ?_)
    have Aa := hp28
    exact z_aret cx hQ rfl (Or.inl ⟨_, rfl⟩) (⟨a, rfl, Nu.of cx.kk (Or.inl hga) Aa⟩) hS (by omega) dJ17_valueOf_31
  · obtain ⟨j, hj⟩ : ∃ j : Nat, v + 128 = (j : Int) := ⟨(v + 128).toNat, by omega⟩
    refine z_gets cx hz9 hB q650 dJ17_valueOf_13 ?_
    refine lv_iload_n hx hb dJ17_valueOf_16 rfl (lv_at hl 0 rfl) ?_
    refine lv_sipush (v := iI (128)) hx hb dJ17_valueOf_17 (by decide) ?_
    refine z_iadd cx (z := v + 128) dJ17_valueOf_20 (by omega) ?_
    refine z_aaldT cx hT9 hB (j) (by omega) dJ17_valueOf_21 ?_
    have h9 := hN9 j (by omega)
    rw [show (j : Int) - 128 = v by omega] at h9
    exact z_aret cx hQ rfl (Or.inl ⟨_, rfl⟩) (⟨ad j, rfl, (h9.kp (P' := fun q => H0.size ≤ q ∨ q < G.2.heap.size) (H1 := H0) (fun q hq hp => ⟨Or.inr hp, hB.2 q hp⟩))⟩) hS (by omega) dJ17_valueOf_22
set_option maxHeartbeats 4000000 in
set_option maxRecDepth 100000 in
theorem m_J2_equals (G : zE) (l : Launch) (H0 : Heap) (P P' : Nat → Prop) (a a' : Nat) (xs xs' : List (List Int)) (hB : Bh G H0) (hne : ¬ a = a') (h0 : LSt G P H0 a xs) (h0' : LSt G P' H0 a' xs') (hln : xs.length ≤ 100000 ∧ xs'.length ≤ 100000) {mc ms : Nat}  : zR G l yJ2_equals (ws_ yJ2_equals cJ2_equals 4 (some FieldType.boolean)) 4 92 mc ms [.ref a, .ref a'] H0 (fun r _ => r = .int (iI (b2i (decide (xs = xs'))))) (Pur H0) := by
  refine zR.start (cc := cJ2_equals) (by decide) (Nat.le_of_ble_eq_true rfl) ?_
  intro p e s m args below meth c Q cx hQ hmn ls hl
  have hx := cx.1
  have hb := cx.2.1
  have hS : va_S (Pur H0) H0 H0 [] := va_S.rf
  have hl : lv_has ls 4 [(0, .ref a), (1, .ref a')] := hl
  obtain ⟨ed, rs, cap, mz, -, h, h2, -, hl9, hst⟩ := h0
  obtain ⟨ed', rs', cap', mz', -, h', h2', -, hl9', hst'⟩ := h0'
  obtain ⟨w, hw, ew⟩ := iI_of (iI mz)
  obtain ⟨w', hw', ew'⟩ := iI_of (iI mz')
  rw [ew] at h
  rw [ew'] at h'
  obtain ⟨mi, hmi⟩ := mi_AL cx.kk.1
  refine lv_aload_n hx hb dJ2_equals_0 rfl (lv_at hl 1 rfl) ?_
  refine lv_aload_n hx hb dJ2_equals_1 rfl (lv_at hl 0 rfl) ?_
  refine lv_acmp_ne (rx := (some a')) (ry := (some a)) (tgt := 7) hx hb dJ2_equals_2 (by decide) (fun c2 => ?_) (fun c2 => (by exfalso; exact hne (Option.some.inj c2).symm))
  refine lv_aload_n hx hb dJ2_equals_7 rfl (lv_at hl 1 rfl) ?_
  refine z_instY cx q951 q993 (zrecv cx h' rfl) dJ2_equals_8 ?_
  refine z_if_ne cx (tgt := 16) dJ2_equals_11 (by decide) (by omega) (fun c11 => ?_) (fun c11 => (by exfalso; omega))
  refine lv_aload_n hx hb dJ2_equals_16 rfl (lv_at hl 0 rfl) ?_
  refine z_getU cx (k0 := 0) h rfl in_J2 (by decide) q93 q92 rfl dJ2_equals_17 ?_
  refine lv_istore_n (lv' := [(2, .int (iI w)), (0, .ref a), (1, .ref a')]) hx hb dJ2_equals_20 rfl hl (by decide) rfl (fun ls hl => ?_)
  refine lv_aload_n hx hb dJ2_equals_21 rfl (lv_at hl 2 rfl) ?_
  refine z_getC cx (rest := []) q952 q1437 q533 q519 q536 hmi (zrecv cx h' rfl) hl (Nat.le_of_ble_eq_true rfl) (by decide) dJ2_equals_22 ?_
  refine z_ldcM cx q953 hmi dJ2_equals_25 ?_
  refine lv_acmp_ne (rx := (some mi)) (ry := (some mi)) (tgt := 41) hx hb dJ2_equals_27 (by decide) (fun c27 => (by exfalso; exact c27 rfl)) (fun c27 => ?_)
  refine lv_aload_n hx hb dJ2_equals_30 rfl (lv_at hl 1 rfl) ?_
  refine lv_aload_n hx hb dJ2_equals_31 rfl (lv_at hl 2 rfl) ?_
  refine va_castE hx hb cx.wn (cx.ts _ q953) (zrecv cx h' rfl) dJ2_equals_32 ?_
  refine z_callV cx (j := 1) (m_J2_equalsArrayList G l _ P P' a ed cap a' ed' cap' (.int (iI w)) w' hw' rs rs' xs xs' (hB.ext (Ext.ofS hS)) (h.ext (Ext.ofS hS)) (h2.ext (Ext.ofS hS)) ⟨⟨hl9.1, by omega⟩, hl9.2, hl9'.2⟩ (fun i r x h1 h2 => (hst i r x h1 h2).ext (Ext.ofS hS)) (h'.ext (Ext.ofS hS)) (h2'.ext (Ext.ofS hS)) ⟨hl9'.1, by omega⟩ (fun i r x h1 h2 => (hst' i r x h1 h2).ext (Ext.ofS hS)) (mc := 0) (ms := 0)) (lw_V q954 q956 qs16 q35 q957) (zrecv cx h rfl) (by decide +kernel) rfl (rest := []) rfl hl (Nat.le_of_ble_eq_true rfl) (by decide) (by omega) dJ2_equals_35 hS (fun q h => Nat.le_trans hS.1 h) (fun v35 H locs hp35 hz9 hk9 hS => ?_)
  have hE9 := Ext.of hz9 hk9 (fun q h => h)
  have hb35 := b2i_rg (decide (xs = xs'))
  subst hp35
  refine lv_goto (tgt := 54) hx hb dJ2_equals_38 (by decide) ?_
  refine lv_istore_n (lv' := [(3, .int (iI (b2i (decide (xs = xs'))))), (2, .int (iI w)), (0, .ref a), (1, .ref a')]) hx hb dJ2_equals_54 rfl hl (by decide) rfl (fun ls hl => ?_)
  refine lv_aload_n hx hb dJ2_equals_55 rfl (lv_at hl 2 rfl) ?_
  refine lv_iload_n hx hb dJ2_equals_56 rfl (lv_at hl 1 rfl) ?_
  refine z_callVv cx (j := 1) (m_J2_checkForComodification G l _ a w (.ref ed) (.int (iI (rs.length : Int))) (h.ext (Ext.ofS hS)) hw (mc := 0) (ms := 0)) (lw_V q981 q983 qs17 q35 q984) (zrecv cx (h.ext (Ext.ofS hS)) rfl) (by decide +kernel) rfl (rest := []) rfl hl (Nat.le_of_ble_eq_true rfl) (by decide) (by omega) dJ2_equals_57 hS (fun q h => Nat.le_trans hS.1 h) (fun H locs hp57 hz9 hk9 hS => ?_)
  have hE9 := Ext.of hz9 hk9 (fun q h => h)
  skip
  refine lv_iload_n hx hb dJ2_equals_60 rfl (lv_at hl 0 rfl) ?_
  exact z_iret cx hQ rfl (b2i_nar _) rfl hS (by omega) dJ2_equals_61
