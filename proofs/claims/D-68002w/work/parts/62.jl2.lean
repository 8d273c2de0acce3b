/-! ===== the JDK: lists 2 (growing) ===== -/
set_option maxHeartbeats 4000000 in
set_option maxRecDepth 100000 in
theorem m_J11_copyOf_3 (G : zE) (l : Launch) (H0 : Heap) (b n mi : Nat) (rs : List (Option Nat)) (hM : va_Mi "[Ljava/lang/Object;" mi G.2) (h : Aq G H0 b 103 rs) (hel : ∀ y, some y ∈ rs → El G H0 y) (hn : rs.length ≤ n ∧ n ≤ 100000) {mc ms : Nat} (hmc : 1 ≤ mc) (hms : n ≤ ms) : zR G l yJ11_copyOf_3 (ws_ yJ11_copyOf_3 cJ11_copyOf_3 4 (some (FieldType.array (FieldType.object "java/lang/Object")))) 1 60 mc ms [.ref b, .int (iI ↑n), .ref mi] H0 (fun r H1 => ∃ d : Nat, r = .ref d ∧ H0.size ≤ d ∧ Aq G H1 d 103 (rs ++ List.replicate (n - rs.length) none)) (Pur H0) := by
  refine zR.start (cc := cJ11_copyOf_3) (by decide) (Nat.le_of_ble_eq_true rfl) ?_
  intro p e s m args below meth c Q cx hQ hmn ls hl
  have hx := cx.1
  have hb := cx.2.1
  have hS : va_S (Pur H0) H0 H0 [] := va_S.rf
  have hl : lv_has ls 4 [(0, .ref b), (1, .int (iI ↑n)), (2, .ref mi)] := hl
  have hmi := hM
  refine lv_aload_n hx hb dJ11_copyOf_3_0 rfl (lv_at hl 2 rfl) ?_
  refine z_ldcM cx q540 hmi dJ11_copyOf_3_1 ?_
  refine lv_acmp_ne (rx := (some mi)) (ry := (some mi)) (tgt := 13) hx hb dJ11_copyOf_3_3 (by decide) (fun c3 => (by exfalso; exact c3 rfl)) (fun c3 => ?_)
  refine lv_iload_n hx hb dJ11_copyOf_3_6 rfl (lv_at hl 1 rfl) ?_
  refine z_newO cx hS q542 (n) (by omega) (by omega) dJ11_copyOf_3_7 (fun d H hd hgd Ad hz9 hE9 hS => ?_)
  refine lv_goto (tgt := 24) hx hb dJ11_copyOf_3_10 (by decide) ?_
  have hl9 : (List.replicate n (none : Option Nat)).length = n := List.length_replicate
  have hel2 : ∀ y, some y ∈ rs → El G H y := fun y hy => (hel y hy).ext (Ext.ofS hS)
  refine lv_astore_n (lv' := [(3, .ref d), (0, .ref b), (1, .int (iI ↑n)), (2, .ref mi)]) hx hb dJ11_copyOf_3_24 rfl hl (by decide) rfl (fun ls hl => ?_)
  refine lv_aload_n hx hb dJ11_copyOf_3_25 rfl (lv_at hl 1 rfl) ?_
  refine lv_iconst (v := iI (0)) hx hb dJ11_copyOf_3_26 rfl ?_
  refine lv_aload_n hx hb dJ11_copyOf_3_27 rfl (lv_at hl 0 rfl) ?_
  refine lv_iconst (v := iI (0)) hx hb dJ11_copyOf_3_28 rfl ?_
  refine lv_aload_n hx hb dJ11_copyOf_3_29 rfl (lv_at hl 1 rfl) ?_
  refine z_alenQ cx (t0 := 3) (h.ext (Ext.ofS hS)) rfl dJ11_copyOf_3_30 ?_
  refine lv_iload_n hx hb dJ11_copyOf_3_31 rfl (lv_at hl 2 rfl) ?_
  refine z_mmin cx (z := ↑rs.length) (rest := [.int (iI 0), .ref d, .int (iI 0), .ref b]) q239 ⟨by omega, by omega⟩ (by omega) hl (Nat.le_of_ble_eq_true rfl) (by decide) (by omega) dJ11_copyOf_3_32 ?_
  refine z_copyR cx (sp := 0) (dp := 0) (w := rs.length) (rest := []) (h.ext (Ext.ofS hS)) Ad (by omega) hS hel2 ⟨by omega, by omega, by omega⟩ (by (rw [hl9]; omega)) q242 hl (Nat.le_of_ble_eq_true rfl) (by decide) dJ11_copyOf_3_35 (fun H locs Ad hz9 hq9 hS => ?_)
  refine lv_aload_n hx hb dJ11_copyOf_3_38 rfl (lv_at hl 0 rfl) ?_
  have e1 : cpyG rs (List.replicate n (none : Option Nat)) 0 0 rs.length = rs ++ List.replicate (n - rs.length) none := by
    unfold cpyG
    rw [List.take_zero, List.nil_append, List.drop_zero, List.take_length, Nat.zero_add, List.drop_replicate]
  rw [e1] at Ad
  exact z_aret cx hQ rfl (Or.inr ⟨_, rfl⟩) (⟨d, rfl, hgd, Ad⟩) hS (by omega) dJ11_copyOf_3_39
set_option maxHeartbeats 4000000 in
set_option maxRecDepth 100000 in
theorem m_J11_copyOf_2 (G : zE) (l : Launch) (H0 : Heap) (b n : Nat) (rs : List (Option Nat)) (h : Aq G H0 b 103 rs) (hel : ∀ y, some y ∈ rs → El G H0 y) (hn : rs.length ≤ n ∧ n ≤ 100000) {mc ms : Nat} (hmc : 1 ≤ mc) (hms : n ≤ ms) : zR G l yJ11_copyOf_2 (ws_ yJ11_copyOf_2 cJ11_copyOf_2 2 (some (FieldType.array (FieldType.object "java/lang/Object")))) 2 83 mc ms [.ref b, .int (iI ↑n)] H0 (fun r H1 => ∃ d : Nat, r = .ref d ∧ H0.size ≤ d ∧ Aq G H1 d 103 (rs ++ List.replicate (n - rs.length) none)) (Pur H0) := by
  refine zR.start (cc := cJ11_copyOf_2) (by decide) (Nat.le_of_ble_eq_true rfl) ?_
  intro p e s m args below meth c Q cx hQ hmn ls hl
  have hx := cx.1
  have hb := cx.2.1
  have hS : va_S (Pur H0) H0 H0 [] := va_S.rf
  have hl : lv_has ls 2 [(0, .ref b), (1, .int (iI ↑n))] := hl
  obtain ⟨mi, hmi⟩ := mi_OA cx.kk.1
  refine lv_aload_n hx hb dJ11_copyOf_2_0 rfl (lv_at hl 0 rfl) ?_
  refine lv_iload_n hx hb dJ11_copyOf_2_1 rfl (lv_at hl 1 rfl) ?_
  refine lv_aload_n hx hb dJ11_copyOf_2_2 rfl (lv_at hl 0 rfl) ?_
  refine z_getC cx (rest := [.int (iI ↑n), .ref b]) q518 q1437 q1436 q519 q536 hmi (zrecA cx h) hl (Nat.le_of_ble_eq_true rfl) (by decide) dJ11_copyOf_2_3 ?_
  refine z_callS cx (j := 3) (m_J11_copyOf_3 G l _ b n mi rs hmi (h.ext (Ext.ofS hS)) (fun y hy => (hel y hy).ext (Ext.ofS hS)) hn (mc := 1) (ms := n) (Nat.le_refl _) (Nat.le_refl _)) (lw_S q537 q538 q46 q539) (by decide +kernel) rfl (rest := []) rfl hl (Nat.le_of_ble_eq_true rfl) (by decide) (by omega) dJ11_copyOf_2_6 hS (fun q h => Nat.le_trans hS.1 h) (fun v6 H locs hp6 hz9 hk9 hS => ?_)
  have hE9 := Ext.of hz9 hk9 (fun q h => h)
  obtain ⟨d, rfl, hgd, Ad⟩ := hp6
  exact z_aret cx hQ rfl (Or.inr ⟨_, rfl⟩) (⟨d, rfl, hgd, Ad⟩) hS (by omega) dJ11_copyOf_2_9
set_option maxHeartbeats 4000000 in
set_option maxRecDepth 100000 in
theorem m_J2_grow_2 (G : zE) (l : Launch) (H0 : Heap) (a ed cap : Nat) (rs : List Nat) (u0 : Value) (hB : Bh G H0) (hab : G.2.heap.size ≤ a) (h : Ob G H0 a 8 [u0, .ref ed, .int (iI (rs.length : Int))]) (h2 : EDok G H0 ed rs cap) (hel : ∀ y, y ∈ rs → El G H0 y) (hf : rs.length = cap ∧ cap ≤ 40000) {mc ms : Nat} (hmc : 1 ≤ mc) (hms : gr cap ≤ ms) : zR G l yJ2_grow_2 (ws_ yJ2_grow_2 cJ2_grow_2 4 (some (FieldType.array (FieldType.object "java/lang/Object")))) 3 104 mc ms [.ref a, .int (iI ((rs.length + 1 : Nat) : Int))] H0 (fun r H1 => ∃ d : Nat, r = .ref d ∧ H0.size ≤ d ∧ Ob G H1 a 8 [u0, .ref d, .int (iI (rs.length : Int))] ∧ Aq G H1 d 103 (rs.map some ++ List.replicate (gr cap - rs.length) none)) (fun q => H0.size ≤ q ∨ q = a) := by
  refine zR.start (cc := cJ2_grow_2) (by decide) (Nat.le_of_ble_eq_true rfl) ?_
  intro p e s m args below meth c Q cx hQ hmn ls hl
  have hx := cx.1
  have hb := cx.2.1
  have hS : va_S (fun q => H0.size ≤ q ∨ q = a) H0 H0 [] := va_S.rf
  have hl : lv_has ls 4 [(0, .ref a), (1, .int (iI ((rs.length + 1 : Nat) : Int)))] := hl
  have hBA : ∀ q, (H0.size ≤ q ∨ q = a) → G.2.heap.size ≤ q := fun q z => by rcases z with z | z; exact Nat.le_trans hB.1 z; omega
  have hg := gr_or cap
  refine lv_aload_n hx hb dJ2_grow_2_0 rfl (lv_at hl 0 rfl) ?_
  refine z_get cx (k0 := 1) h rfl in_J2 (by decide) q86 rfl rfl dJ2_grow_2_1 ?_
  refine z_alenE cx hB h2 dJ2_grow_2_4 ?_
  refine lv_istore_n (lv' := [(2, .int (iI ↑cap)), (0, .ref a), (1, .int (iI ((rs.length + 1 : Nat) : Int)))]) hx hb dJ2_grow_2_5 rfl hl (by decide) rfl (fun ls hl => ?_)
  refine lv_iload_n hx hb dJ2_grow_2_6 rfl (lv_at hl 0 rfl) ?_
  refine z_if_gt cx (tgt := 20) dJ2_grow_2_7 (by decide) (by omega) (fun c7 => ?_) (fun c7 => ?_)
  · have hc0 : 0 < cap := by omega
    have h4 : Aq G H0 ed 103 (rs.map some) := by
      rcases h2 with ⟨h5, h6, h7⟩ | ⟨h5, h6, h7, h8⟩
      · exact absurd h7 (by omega)
      · rw [show cap - rs.length = 0 by omega, List.replicate_zero, List.append_nil] at h8; exact h8
    refine lv_iload_n hx hb dJ2_grow_2_20 rfl (lv_at hl 0 rfl) ?_
    refine lv_iload_n hx hb dJ2_grow_2_21 rfl (lv_at hl 2 rfl) ?_
    refine lv_iload_n hx hb dJ2_grow_2_22 rfl (lv_at hl 0 rfl) ?_
    refine z_isub cx (z := 1) dJ2_grow_2_23 (by omega) ?_
    refine lv_iload_n hx hb dJ2_grow_2_24 rfl (lv_at hl 0 rfl) ?_
    refine lv_iconst (v := iI (1)) hx hb dJ2_grow_2_25 rfl ?_
    refine z_ishr1 cx (n := cap) (by omega) dJ2_grow_2_26 ?_
    have e1 : ((cap + max 1 (cap / 2) : Nat) : Int) = ((gr cap : Nat) : Int) := by omega
    refine z_callS cx (j := 3) (m_J9_newLength G l _ cap 1 (cap / 2) (by omega) (mc := 0) (ms := 0)) (lw_S q514 q219 q44 q220) (by decide +kernel) rfl (rest := []) rfl hl (Nat.le_of_ble_eq_true rfl) (by decide) (by omega) dJ2_grow_2_27 hS (fun q h => Or.inl (Nat.le_trans hS.1 h)) (fun v27 H locs hp27 hz9 hk9 hS => ?_)
    have hE9 := Ext.of hz9 hk9 (fun q h => h)
    have h := h.ext hE9
    have h2 := h2.ext hE9
    subst hp27
    have h4 := h4.ext hE9
    have hel : ∀ y, y ∈ rs → El G H y := fun y hy => (hel y hy).ext hE9
    rw [e1]
    refine lv_istore_n (lv' := [(3, .int (iI ((gr cap : Nat) : Int))), (2, .int (iI ↑cap)), (0, .ref a), (1, .int (iI ((rs.length + 1 : Nat) : Int)))]) hx hb dJ2_grow_2_30 rfl hl (by decide) rfl (fun ls hl => ?_)
    refine lv_aload_n hx hb dJ2_grow_2_31 rfl (lv_at hl 2 rfl) ?_
    refine lv_aload_n hx hb dJ2_grow_2_32 rfl (lv_at hl 2 rfl) ?_
    refine z_get cx (k0 := 1) h rfl in_J2 (by decide) q86 rfl rfl dJ2_grow_2_33 ?_
    refine lv_iload_n hx hb dJ2_grow_2_36 rfl (lv_at hl 0 rfl) ?_
    have hl9 : (rs.map some).length = rs.length := List.length_map _
    have hal := h.lt
    refine z_callS cx (j := 2) (m_J11_copyOf_2 G l _ ed (gr cap) (rs.map some) h4 (fun y hy => by obtain ⟨z, hz, e⟩ := List.mem_map.mp hy; cases e; exact hel _ hz) (by rw [hl9]; omega) (mc := 1) (ms := gr cap) (Nat.le_refl _) (Nat.le_refl _)) (lw_S q515 q516 q46 q517) (by decide +kernel) rfl (rest := [.ref a]) rfl hl (Nat.le_of_ble_eq_true rfl) (by decide) (by omega) dJ2_grow_2_37 hS (fun q h => Or.inl (Nat.le_trans hS.1 h)) (fun v37 H locs hp37 hz9 hk9 hS => ?_)
    have hE9 := Ext.of hz9 hk9 (fun q h => h)
    obtain ⟨d, rfl, hgd, Ad⟩ := hp37
    have h := h.ext hE9
    have h2 := h2.ext hE9
    rw [hl9] at Ad
    have hda : d ≠ a := by omega
    have hgs := hz9
    refine lv_dup_x1 hx hb dJ2_grow_2_40 rfl rfl ?_
    refine z_put cx (k0 := 1) (vs' := [u0, .ref d, .int (iI ↑rs.length)]) h (Or.inr rfl) hS rfl in_J2 tyJ2_ok nmJ2 (by decide) q86 rfl rfl  rfl (Nat.le_of_ble_eq_true rfl) ⟨rfl, rfl⟩ dJ2_grow_2_41 (fun H locs h hz9 hq9 hS => ?_)
    have Ad := Ad.kept (hq9 _ hda)
    exact z_aret cx hQ rfl (Or.inr ⟨_, rfl⟩) (⟨d, rfl, by omega, h, Ad⟩) hS (by omega) dJ2_grow_2_44
  · have hc0 : cap = 0 := by omega
    have he : ed = e0 G := by
      rcases h2 with ⟨h5, h6, h7⟩ | ⟨h5, h6, h7, h8⟩
      · exact h6
      · exact absurd h6 (by omega)
    have hr0 : rs.length = 0 := by omega
    have hg10 : gr cap = 10 := by omega
    have e10 : gr cap - rs.length = 10 := by omega
    have hrn : rs = [] := List.eq_nil_of_length_eq_zero hr0
    have hal := h.lt
    refine lv_aload_n hx hb dJ2_grow_2_10 rfl (lv_at hl 1 rfl) ?_
    refine z_get cx (k0 := 1) h rfl in_J2 (by decide) q86 rfl rfl dJ2_grow_2_11 ?_
    refine z_gets cx (e0_z cx.kk) hB q84 dJ2_grow_2_14 ?_
    refine lv_acmp_eq (rx := (some ed)) (ry := (some (e0 G))) (tgt := 45) hx hb dJ2_grow_2_17 (by decide) (fun c17 => ?_) (fun c17 => (by exfalso; exact c17 (by rw [he])))
    refine lv_aload_n hx hb dJ2_grow_2_45 rfl (lv_at hl 1 rfl) ?_
    refine lv_bipush (v := iI (10)) hx hb dJ2_grow_2_46 (by decide) ?_
    refine lv_iload_n hx hb dJ2_grow_2_48 rfl (lv_at hl 2 rfl) ?_
    refine z_mmax cx (z := 10) (rest := [.ref a]) q543 ⟨by omega, by omega⟩ (by omega) hl (Nat.le_of_ble_eq_true rfl) (by decide) (by omega) dJ2_grow_2_49 ?_
    refine z_newO cx hS q544 (10) (by omega) (by omega) dJ2_grow_2_52 (fun d H hd hgd Ad hz9 hE9 hS => ?_)
    have h := h.ext hE9
    have h2 := h2.ext hE9
    have hda : d ≠ a := by omega
    refine lv_dup_x1 hx hb dJ2_grow_2_55 rfl rfl ?_
    refine z_put cx (k0 := 1) (vs' := [u0, .ref d, .int (iI ↑rs.length)]) h (Or.inr rfl) hS rfl in_J2 tyJ2_ok nmJ2 (by decide) q86 rfl rfl  rfl (Nat.le_of_ble_eq_true rfl) ⟨rfl, rfl⟩ dJ2_grow_2_56 (fun H locs h hz9 hq9 hS => ?_)
    have Ad := Ad.kept (hq9 _ hda)
    exact z_aret cx hQ rfl (Or.inr ⟨_, rfl⟩) (⟨d, rfl, hgd, h, by rw [e10, hrn, List.map_nil, List.nil_append]; exact Ad⟩) hS (by omega) dJ2_grow_2_59
set_option maxHeartbeats 4000000 in
set_option maxRecDepth 100000 in
theorem m_J2_grow (G : zE) (l : Launch) (H0 : Heap) (a ed cap : Nat) (rs : List Nat) (u0 : Value) (hB : Bh G H0) (hab : G.2.heap.size ≤ a) (h : Ob G H0 a 8 [u0, .ref ed, .int (iI (rs.length : Int))]) (h2 : EDok G H0 ed rs cap) (hel : ∀ y, y ∈ rs → El G H0 y) (hf : rs.length = cap ∧ cap ≤ 40000) {mc ms : Nat} (hmc : 1 ≤ mc) (hms : gr cap ≤ ms) : zR G l yJ2_grow (ws_ yJ2_grow cJ2_grow 1 (some (FieldType.array (FieldType.object "java/lang/Object")))) 4 127 mc ms [.ref a] H0 (fun r H1 => ∃ d : Nat, r = .ref d ∧ H0.size ≤ d ∧ Ob G H1 a 8 [u0, .ref d, .int (iI (rs.length : Int))] ∧ Aq G H1 d 103 (rs.map some ++ List.replicate (gr cap - rs.length) none)) (fun q => H0.size ≤ q ∨ q = a) := by
  refine zR.start (cc := cJ2_grow) (by decide) (Nat.le_of_ble_eq_true rfl) ?_
  intro p e s m args below meth c Q cx hQ hmn ls hl
  have hx := cx.1
  have hb := cx.2.1
  have hS : va_S (fun q => H0.size ≤ q ∨ q = a) H0 H0 [] := va_S.rf
  have hl : lv_has ls 1 [(0, .ref a)] := hl
  refine lv_aload_n hx hb dJ2_grow_0 rfl (lv_at hl 0 rfl) ?_
  refine lv_aload_n hx hb dJ2_grow_1 rfl (lv_at hl 0 rfl) ?_
  refine z_get cx (k0 := 2) h rfl in_J2 (by decide) q89 rfl rfl dJ2_grow_2 ?_
  refine lv_iconst (v := iI (1)) hx hb dJ2_grow_5 rfl ?_
  refine z_iadd cx (z := ((rs.length + 1 : Nat) : Int)) dJ2_grow_6 (by omega) ?_
  refine z_callV cx (j := 1) (m_J2_grow_2 G l _ a ed cap rs u0 hB hab h h2 hel hf (mc := 1) (ms := gr cap) (Nat.le_refl _) (Nat.le_refl _)) (lw_V q510 q512 qs3 q35 q513) (zrecv cx h rfl) (by decide +kernel) rfl (rest := []) rfl hl (Nat.le_of_ble_eq_true rfl) (by decide) (by omega) dJ2_grow_7 hS (fun q h => by rcases h with h | h; exact Or.inl (Nat.le_trans hS.1 h); exact Or.inr h) (fun v7 H locs hp7 hz9 hk9 hS => ?_)
  obtain ⟨d, rfl, hgd, h, Ad⟩ := hp7
  exact z_aret cx hQ rfl (Or.inr ⟨_, rfl⟩) (⟨d, rfl, hgd, h, Ad⟩) hS (by omega) dJ2_grow_10
set_option maxHeartbeats 4000000 in
set_option maxRecDepth 100000 in
theorem m_J2_add_2 (G : zE) (l : Launch) (H0 : Heap) (a ed cap x : Nat) (rs : List Nat) (u0 : Value) (hB : Bh G H0) (hab : G.2.heap.size ≤ a) (h : Ob G H0 a 8 [u0, .ref ed, .int (iI (rs.length : Int))]) (h2 : EDok G H0 ed rs cap) (hel : ∀ y, y ∈ rs → El G H0 y) (hex : El G H0 x) (hf : cap ≤ 40000) {mc ms : Nat} (hmc : (if rs.length = cap then 1 else 0) ≤ mc) (hms : (if rs.length = cap then gr cap else 0) ≤ ms) : zV G l yJ2_add_2 (ws_ yJ2_add_2 cJ2_add_2 4 (none)) 5 147 mc ms [.ref a, .ref x, .ref ed, .int (iI ↑rs.length)] H0 (fun H1 => ∃ d : Nat, ((d = ed ∧ ¬ rs.length = cap) ∨ H0.size ≤ d) ∧ Ob G H1 a 8 [u0, .ref d, .int (iI ((rs.length + 1 : Nat) : Int))] ∧ EDok G H1 d (rs ++ [x]) (if rs.length = cap then gr cap else cap)) (fun q => H0.size ≤ q ∨ q = a ∨ (G.2.heap.size ≤ q ∧ q = ed)) := by
  refine zV.start (cc := cJ2_add_2) (by decide) (Nat.le_of_ble_eq_true rfl) ?_
  intro p e s m args below meth c Q cx hQ hmn ls hl
  have hx := cx.1
  have hb := cx.2.1
  have hS : va_S (fun q => H0.size ≤ q ∨ q = a ∨ (G.2.heap.size ≤ q ∧ q = ed)) H0 H0 [] := va_S.rf
  have hl : lv_has ls 4 [(0, .ref a), (1, .ref x), (2, .ref ed), (3, .int (iI ↑rs.length))] := hl
  have hg := gr_or cap
  have hle := h2.le
  have hal := h.lt
  have hBA : ∀ q, (H0.size ≤ q ∨ q = a ∨ (G.2.heap.size ≤ q ∧ q = ed)) → G.2.heap.size ≤ q := fun q z => by rcases z with z | z | z; exact Nat.le_trans hB.1 z; omega; exact z.1
  have hset : ∀ r9 : Nat, (rs.map some ++ List.replicate (r9 + 1) none).set rs.length (some x) = (rs ++ [x]).map some ++ List.replicate r9 none := fun r9 => by
    rw [List.set_append_right _ _ (by rw [List.length_map]; exact Nat.le_refl _), List.length_map, Nat.sub_self, List.replicate_succ, List.set_cons_zero, List.map_append, List.append_assoc]; rfl
  refine lv_iload_n hx hb dJ2_add_2_0 rfl (lv_at hl 3 rfl) ?_
  refine lv_aload_n hx hb dJ2_add_2_1 rfl (lv_at hl 2 rfl) ?_
  refine z_alenE cx hB h2 dJ2_add_2_2 ?_
  refine z_icmp_ne cx (tgt := 11) dJ2_add_2_3 (by decide) (by omega) (fun c3 => ?_) (fun c3 => ?_)
  · have hlt : ¬ rs.length = cap := by omega
    have h5 : G.2.heap.size ≤ ed ∧ Aq G H0 ed 103 (rs.map some ++ List.replicate (cap - rs.length) none) := by
      rcases h2 with ⟨h5, h6, h7⟩ | ⟨h5, h6, h7, h8⟩
      · rw [h5, h7] at hlt; exact absurd rfl hlt
      · exact ⟨h5, h8⟩
    obtain ⟨h5, Ad⟩ := h5
    have hea : ed ≠ a := Ad.cl.ne h.cl cx.kk rfl
    have hl9 : (rs.map some ++ List.replicate (cap - rs.length) (none : Option Nat)).length = cap := by rw [List.length_append, List.length_map, List.length_replicate]; omega
    refine lv_aload_n hx hb dJ2_add_2_11 rfl (lv_at hl 2 rfl) ?_
    refine lv_iload_n hx hb dJ2_add_2_12 rfl (lv_at hl 3 rfl) ?_
    refine lv_aload_n hx hb dJ2_add_2_13 rfl (lv_at hl 1 rfl) ?_
    refine z_aastO cx Ad hex (Or.inr (Or.inr ⟨h5, rfl⟩)) hS ((rs.length)) (by omega) dJ2_add_2_14 (fun H locs Ad hz9 hq9 hS => ?_)
    have h := h.kept (hq9 _ (Ne.symm hea))
    refine lv_aload_n hx hb dJ2_add_2_15 rfl (lv_at hl 0 rfl) ?_
    refine lv_iload_n hx hb dJ2_add_2_16 rfl (lv_at hl 3 rfl) ?_
    refine lv_iconst (v := iI (1)) hx hb dJ2_add_2_17 rfl ?_
    refine z_iadd cx (z := ((rs.length + 1 : Nat) : Int)) dJ2_add_2_18 (by omega) ?_
    refine z_put cx (k0 := 2) (vs' := [u0, .ref ed, .int (iI ((rs.length + 1 : Nat) : Int))]) h (Or.inr (Or.inl rfl)) hS rfl in_J2 tyJ2_ok nmJ2 (by decide) q89 rfl rfl  rfl (Nat.le_of_ble_eq_true rfl) ⟨rfl, rfl⟩ dJ2_add_2_19 (fun H locs h hz9 hq9 hS => ?_)
    have Ad := Ad.kept (hq9 _ hea)
    exact z_vret cx hQ rfl (⟨ed, Or.inl ⟨rfl, hlt⟩, h, by rw [if_neg hlt]; exact Or.inr ⟨h5, by omega, by rw [List.length_append, List.length_singleton]; omega, by rw [show cap - rs.length = (cap - (rs ++ [x]).length) + 1 by (rw [List.length_append, List.length_singleton]; omega), hset] at Ad; exact Ad⟩⟩) hS (by omega) dJ2_add_2_22
  · have heq : rs.length = cap := by omega
    rw [if_pos heq] at hmc hms
    refine lv_aload_n hx hb dJ2_add_2_6 rfl (lv_at hl 0 rfl) ?_
    refine z_callV cx (j := 0) (m_J2_grow G l _ a ed cap rs u0 hB hab h h2 hel ⟨heq, hf⟩ (mc := 1) (ms := gr cap) (Nat.le_refl _) (Nat.le_refl _)) (lw_V q506 q508 qs2 q35 q509) (zrecv cx h rfl) (by decide +kernel) rfl (rest := []) rfl hl (Nat.le_of_ble_eq_true rfl) (by decide) (by omega) dJ2_add_2_7 hS (fun q h => by rcases h with h | h; exact Or.inl (Nat.le_trans hS.1 h); exact Or.inr (Or.inl h)) (fun v7 H locs hp7 hz9 hk9 hS => ?_)
    obtain ⟨d, rfl, hgd, h, Ad⟩ := hp7
    have hda : d ≠ a := by omega
    have hgB := hB.1
    have hl9 : (rs.map some ++ List.replicate (gr cap - rs.length) (none : Option Nat)).length = gr cap := by rw [List.length_append, List.length_map, List.length_replicate]; omega
    have hex : El G H x := by
      obtain ⟨C, q1, cell, q2, q3⟩ := hex
      by_cases hxa : x = a
      · subst hxa
        obtain ⟨r9, g1, cell9, g2, g3, g4, g5⟩ := h
        exact ⟨"java/util/ArrayList", q1421, cell9, g2, by rw [g4]; rfl, by rw [g3]; exact (cx.kk.1.2.1 8 _ rfl).2.1⟩
      · exact ⟨C, q1, cell, by rw [hk9 x (Array.getElem?_eq_some_iff.mp q2).1 (by rintro (z | z); exact absurd (Array.getElem?_eq_some_iff.mp q2).1 (Nat.not_lt.mpr z); exact hxa z)]; exact q2, q3⟩
    refine lv_astore_n (lv' := [(2, .ref d), (0, .ref a), (1, .ref x), (3, .int (iI ↑rs.length))]) hx hb dJ2_add_2_10 rfl hl (by decide) rfl (fun ls hl => ?_)
    refine lv_aload_n hx hb dJ2_add_2_11 rfl (lv_at hl 0 rfl) ?_
    refine lv_iload_n hx hb dJ2_add_2_12 rfl (lv_at hl 3 rfl) ?_
    refine lv_aload_n hx hb dJ2_add_2_13 rfl (lv_at hl 2 rfl) ?_
    refine z_aastO cx Ad hex (Or.inl (by omega)) hS ((rs.length)) (by omega) dJ2_add_2_14 (fun H locs Ad hz9 hq9 hS => ?_)
    have h := h.kept (hq9 _ (Ne.symm hda))
    refine lv_aload_n hx hb dJ2_add_2_15 rfl (lv_at hl 1 rfl) ?_
    refine lv_iload_n hx hb dJ2_add_2_16 rfl (lv_at hl 3 rfl) ?_
    refine lv_iconst (v := iI (1)) hx hb dJ2_add_2_17 rfl ?_
    refine z_iadd cx (z := ((rs.length + 1 : Nat) : Int)) dJ2_add_2_18 (by omega) ?_
    refine z_put cx (k0 := 2) (vs' := [u0, .ref d, .int (iI ((rs.length + 1 : Nat) : Int))]) h (Or.inr (Or.inl rfl)) hS rfl in_J2 tyJ2_ok nmJ2 (by decide) q89 rfl rfl  rfl (Nat.le_of_ble_eq_true rfl) ⟨rfl, rfl⟩ dJ2_add_2_19 (fun H locs h hz9 hq9 hS => ?_)
    have Ad := Ad.kept (hq9 _ hda)
    exact z_vret cx hQ rfl (⟨d, Or.inr hgd, h, by rw [if_pos heq]; exact Or.inr ⟨by omega, by omega, by rw [List.length_append, List.length_singleton]; omega, by rw [show gr cap - rs.length = (gr cap - (rs ++ [x]).length) + 1 by (rw [List.length_append, List.length_singleton]; omega), hset] at Ad; exact Ad⟩⟩) hS (by omega) dJ2_add_2_22
set_option maxHeartbeats 4000000 in
set_option maxRecDepth 100000 in
theorem m_J2_add (G : zE) (l : Launch) (H0 : Heap) (a ed cap x : Nat) (mz : Int) (rs : List Nat) (hB : Bh G H0) (hab : G.2.heap.size ≤ a) (h : Ob G H0 a 8 [.int (iI mz), .ref ed, .int (iI (rs.length : Int))]) (h2 : EDok G H0 ed rs cap) (hel : ∀ y, y ∈ rs → El G H0 y) (hex : El G H0 x) (hf : cap ≤ 40000) {mc ms : Nat} (hmc : (if rs.length = cap then 1 else 0) ≤ mc) (hms : (if rs.length = cap then gr cap else 0) ≤ ms) : zR G l yJ2_add (ws_ yJ2_add cJ2_add 2 (some FieldType.boolean)) 6 170 mc ms [.ref a, .ref x] H0 (fun r H1 => r = .int (iI 1) ∧ ∃ d : Nat, ((d = ed ∧ ¬ rs.length = cap) ∨ H0.size ≤ d) ∧ Ob G H1 a 8 [.int (iI (mz + 1)), .ref d, .int (iI ((rs.length + 1 : Nat) : Int))] ∧ EDok G H1 d (rs ++ [x]) (if rs.length = cap then gr cap else cap)) (fun q => H0.size ≤ q ∨ q = a ∨ (G.2.heap.size ≤ q ∧ q = ed)) := by
  refine zR.start (cc := cJ2_add) (by decide) (Nat.le_of_ble_eq_true rfl) ?_
  intro p e s m args below meth c Q cx hQ hmn ls hl
  have hx := cx.1
  have hb := cx.2.1
  have hS : va_S (fun q => H0.size ≤ q ∨ q = a ∨ (G.2.heap.size ≤ q ∧ q = ed)) H0 H0 [] := va_S.rf
  have hl : lv_has ls 2 [(0, .ref a), (1, .ref x)] := hl
  have hBA : ∀ q, (H0.size ≤ q ∨ q = a ∨ (G.2.heap.size ≤ q ∧ q = ed)) → G.2.heap.size ≤ q := fun q z => by rcases z with z | z | z; exact Nat.le_trans hB.1 z; omega; exact z.1
  have hea := h2.ne cx.kk h.cl hab rfl
  have helk : ∀ H' : Heap, (∀ q : Nat, q ≠ a → H'[q]? = H0[q]?) → Ob G H' a 8 [.int (iI (mz + 1)), .ref ed, .int (iI (rs.length : Int))] → ∀ y, El G H0 y → El G H' y := fun H' hq hb y hy => by
    by_cases hya : y = a
    · subst hya
      exact El.ob cx.kk hb rfl q1421
    · exact hy.kept (hq y hya)
  refine lv_aload_n hx hb dJ2_add_0 rfl (lv_at hl 0 rfl) ?_
  refine lv_dup hx hb dJ2_add_1 rfl ?_
  refine z_getU cx (k0 := 0) h rfl in_J2 (by decide) q93 q92 rfl dJ2_add_2 ?_
  refine lv_iconst (v := iI (1)) hx hb dJ2_add_5 rfl ?_
  refine z_iadd cx (z := mz + 1) dJ2_add_6 (by omega) ?_
  refine z_putU cx (k0 := 0) (vs' := [.int (iI (mz + 1)), .ref ed, .int (iI ↑rs.length)]) h (Or.inr (Or.inl rfl)) hS rfl in_J2 tyJ2_ok nmJ2 (by decide) q93 q92 rfl  rfl (Nat.le_of_ble_eq_true rfl) ⟨rfl, rfl⟩ dJ2_add_7 (fun H locs h hz9 hq9 hS => ?_)
  have h2 := h2.kept (fun _ _ => hq9 ed hea)
  have hel : ∀ y, y ∈ rs → El G H y := fun y hy => helk H hq9 h y (hel y hy)
  have hex := helk H hq9 h x hex
  have hzs := hz9
  refine lv_aload_n hx hb dJ2_add_10 rfl (lv_at hl 0 rfl) ?_
  refine lv_aload_n hx hb dJ2_add_11 rfl (lv_at hl 1 rfl) ?_
  refine lv_aload_n hx hb dJ2_add_12 rfl (lv_at hl 0 rfl) ?_
  refine z_get cx (k0 := 1) h rfl in_J2 (by decide) q86 rfl rfl dJ2_add_13 ?_
  refine lv_aload_n hx hb dJ2_add_16 rfl (lv_at hl 0 rfl) ?_
  refine z_get cx (k0 := 2) h rfl in_J2 (by decide) q89 rfl rfl dJ2_add_17 ?_
  refine z_callVv cx (j := 3) (m_J2_add_2 G l _ a ed cap x rs (.int (iI (mz + 1))) (hB.ofS hS hBA) hab h h2 hel hex hf hmc hms) (lw_V q502 q504 qs1 q35 q505) (zrecv cx h rfl) (by decide +kernel) rfl (rest := []) rfl hl (Nat.le_of_ble_eq_true rfl) (by decide) (by omega) dJ2_add_20 hS (fun q h => by rcases h with h | h; exact Or.inl (Nat.le_trans hS.1 h); exact Or.inr h) (fun H locs hp20 hz9 hk9 hS => ?_)
  obtain ⟨d, hd, h, Ad⟩ := hp20
  refine lv_iconst (v := iI (1)) hx hb dJ2_add_23 rfl ?_
  exact z_iret cx hQ rfl rfl (⟨rfl, d, by rw [← hzs]; exact hd, h, Ad⟩) hS (by omega) dJ2_add_24
