/-! ===== the JDK: lists 1 ===== -/
set_option maxHeartbeats 4000000 in
set_option maxRecDepth 100000 in
theorem m_J0_init (G : zE) (l : Launch) (H0 : Heap) (a : Nat) (u0 u1 u2 : Value) (h : Ob G H0 a 8 [u0, u1, u2]) {mc ms : Nat}  : zV G l yJ0_init (ws_ yJ0_init cJ0_init 1 (none)) 1 20 mc ms [.ref a] H0 (fun H1 => Ob G H1 a 8 [u0, u1, u2]) (fun q => H0.size ≤ q ∨ q = a) := by
  refine zV.start (cc := cJ0_init) (by decide) (Nat.le_of_ble_eq_true rfl) ?_
  intro p e s m args below meth c Q cx hQ hmn ls hl
  have hx := cx.1
  have hb := cx.2.1
  have hS : va_S (fun q => H0.size ≤ q ∨ q = a) H0 H0 [] := va_S.rf
  have hl : lv_has ls 1 [(0, .ref a)] := hl
  refine lv_aload_n hx hb dJ0_init_0 rfl (lv_at hl 0 rfl) ?_
  refine z_obj cx q83 q70 q71 hl (Nat.le_of_ble_eq_true rfl) (by decide) dJ0_init_1 ?_
  exact z_vret cx hQ rfl h hS (by omega) dJ0_init_4
set_option maxHeartbeats 4000000 in
set_option maxRecDepth 100000 in
theorem m_J1_init (G : zE) (l : Launch) (H0 : Heap) (a : Nat) (u0 u1 u2 : Value) (h : Ob G H0 a 8 [u0, u1, u2]) {mc ms : Nat}  : zV G l yJ1_init (ws_ yJ1_init cJ1_init 1 (none)) 2 40 mc ms [.ref a] H0 (fun H1 => Ob G H1 a 8 [.int (iI 0), u1, u2]) (fun q => H0.size ≤ q ∨ q = a) := by
  refine zV.start (cc := cJ1_init) (by decide) (Nat.le_of_ble_eq_true rfl) ?_
  intro p e s m args below meth c Q cx hQ hmn ls hl
  have hx := cx.1
  have hb := cx.2.1
  have hS : va_S (fun q => H0.size ≤ q ∨ q = a) H0 H0 [] := va_S.rf
  have hl : lv_has ls 1 [(0, .ref a)] := hl
  refine lv_aload_n hx hb dJ1_init_0 rfl (lv_at hl 0 rfl) ?_
  refine z_callI cx (j := 0) (m_J0_init G l _ a u0 u1 u2 h (mc := 0) (ms := 0)) (lw_meth q82) q33 q80 q81 rfl (by decide +kernel) rfl (rest := []) rfl hl (Nat.le_of_ble_eq_true rfl) (by decide) (by omega) dJ1_init_1 hS (fun q h => by rcases h with h | h; exact Or.inl (Nat.le_trans hS.1 h); exact Or.inr h) (fun H locs hp1 hz9 hk9 hS => ?_)
  have h := hp1
  refine lv_aload_n hx hb dJ1_init_4 rfl (lv_at hl 0 rfl) ?_
  refine lv_iconst (v := iI (0)) hx hb dJ1_init_5 rfl ?_
  refine z_put cx (k0 := 0) (vs' := [.int (iI 0), u1, u2]) h (Or.inr rfl) hS rfl in_J2 tyJ2_ok nmJ2 (by decide) q90 rfl rfl  rfl (Nat.le_of_ble_eq_true rfl) ⟨rfl, rfl⟩ dJ1_init_6 (fun H locs h hz9 hq9 hS => ?_)
  exact z_vret cx hQ rfl h hS (by omega) dJ1_init_9
set_option maxHeartbeats 4000000 in
set_option maxRecDepth 100000 in
theorem m_J2_init (G : zE) (l : Launch) (H0 : Heap) (a : Nat) (u0 u1 u2 : Value) (hB : Bh G H0) (hab : G.2.heap.size ≤ a) (h : Ob G H0 a 8 [u0, u1, u2]) {mc ms : Nat}  : zV G l yJ2_init (ws_ yJ2_init cJ2_init 1 (none)) 3 60 mc ms [.ref a] H0 (fun H1 => Ob G H1 a 8 [.int (iI 0), .ref (e0 G), u2]) (fun q => H0.size ≤ q ∨ q = a) := by
  refine zV.start (cc := cJ2_init) (by decide) (Nat.le_of_ble_eq_true rfl) ?_
  intro p e s m args below meth c Q cx hQ hmn ls hl
  have hx := cx.1
  have hb := cx.2.1
  have hS : va_S (fun q => H0.size ≤ q ∨ q = a) H0 H0 [] := va_S.rf
  have hl : lv_has ls 1 [(0, .ref a)] := hl
  have hBA : ∀ q, (H0.size ≤ q ∨ q = a) → G.2.heap.size ≤ q := fun q z => by rcases z with z | z; exact Nat.le_trans hB.1 z; omega
  refine lv_aload_n hx hb dJ2_init_0 rfl (lv_at hl 0 rfl) ?_
  refine z_callI cx (j := 0) (m_J1_init G l _ a u0 u1 u2 h (mc := 0) (ms := 0)) (lw_meth q79) q34 q77 q78 rfl (by decide +kernel) rfl (rest := []) rfl hl (Nat.le_of_ble_eq_true rfl) (by decide) (by omega) dJ2_init_1 hS (fun q h => by rcases h with h | h; exact Or.inl (Nat.le_trans hS.1 h); exact Or.inr h) (fun H locs hp1 hz9 hk9 hS => ?_)
  have h := hp1
  refine lv_aload_n hx hb dJ2_init_4 rfl (lv_at hl 0 rfl) ?_
  refine z_gets cx (e0_z cx.kk) (hB.ofS hS hBA) q84 dJ2_init_5 ?_
  refine z_put cx (k0 := 1) (vs' := [.int (iI 0), .ref (e0 G), u2]) h (Or.inr rfl) hS rfl in_J2 tyJ2_ok nmJ2 (by decide) q86 rfl rfl  rfl (Nat.le_of_ble_eq_true rfl) ⟨rfl, rfl⟩ dJ2_init_8 (fun H locs h hz9 hq9 hS => ?_)
  exact z_vret cx hQ rfl h hS (by omega) dJ2_init_11
set_option maxHeartbeats 4000000 in
set_option maxRecDepth 100000 in
theorem m_J2_size (G : zE) (l : Launch) (H0 : Heap) (a : Nat) (n : Int) (u0 u1 : Value) (h : Ob G H0 a 8 [u0, u1, .int (iI n)]) {mc ms : Nat}  : zR G l yJ2_size (ws_ yJ2_size cJ2_size 1 (some FieldType.int)) 0 0 mc ms [.ref a] H0 (fun r _ => r = .int (iI n)) (Pur H0) := by
  refine zR.start (cc := cJ2_size) (by decide) (Nat.le_of_ble_eq_true rfl) ?_
  intro p e s m args below meth c Q cx hQ hmn ls hl
  have hx := cx.1
  have hb := cx.2.1
  have hS : va_S (Pur H0) H0 H0 [] := va_S.rf
  have hl : lv_has ls 1 [(0, .ref a)] := hl
  refine lv_aload_n hx hb dJ2_size_0 rfl (lv_at hl 0 rfl) ?_
  refine z_get cx (k0 := 2) h rfl in_J2 (by decide) q89 rfl rfl dJ2_size_1 ?_
  exact z_iret cx hQ rfl rfl rfl hS (by omega) dJ2_size_4
set_option maxHeartbeats 4000000 in
set_option maxRecDepth 100000 in
theorem m_J2_elementData (G : zE) (l : Launch) (H0 : Heap) (a ed i cap : Nat) (rs : List Nat) (u0 u2 : Value) (h : Ob G H0 a 8 [u0, .ref ed, u2]) (h2 : EDok G H0 ed rs cap) (hi : i < rs.length ∧ rs.length ≤ 100000) {mc ms : Nat}  : zR G l yJ2_elementData (ws_ yJ2_elementData cJ2_elementData 2 (some (FieldType.object "java/lang/Object"))) 0 0 mc ms [.ref a, .int (iI ↑i)] H0 (fun r _ => r = .ref (rs.getD i 0)) (Pur H0) := by
  refine zR.start (cc := cJ2_elementData) (by decide) (Nat.le_of_ble_eq_true rfl) ?_
  intro p e s m args below meth c Q cx hQ hmn ls hl
  have hx := cx.1
  have hb := cx.2.1
  have hS : va_S (Pur H0) H0 H0 [] := va_S.rf
  have hl : lv_has ls 2 [(0, .ref a), (1, .int (iI ↑i))] := hl
  refine lv_aload_n hx hb dJ2_elementData_0 rfl (lv_at hl 0 rfl) ?_
  refine z_get cx (k0 := 1) h rfl in_J2 (by decide) q86 rfl rfl dJ2_elementData_1 ?_
  refine lv_iload_n hx hb dJ2_elementData_4 rfl (lv_at hl 1 rfl) ?_
  refine z_aaldE cx h2 (i) (by omega) dJ2_elementData_5 (fun x5 hx5 => ?_)
  exact z_aret cx hQ rfl (Or.inl ⟨_, rfl⟩) (by rw [getDn hi.1] at hx5; cases hx5; rfl) hS (by omega) dJ2_elementData_6
set_option maxHeartbeats 4000000 in
set_option maxRecDepth 100000 in
theorem m_J18_checkIndex (G : zE) (l : Launch) (H0 : Heap) (i n : Nat) (h : i < n ∧ n ≤ 100000) {mc ms : Nat}  : zR G l yJ18_checkIndex (ws_ yJ18_checkIndex cJ18_checkIndex 2 (some FieldType.int)) 1 22 mc ms [.int (iI ↑i), .int (iI ↑n)] H0 (fun r _ => r = .int (iI (i : Int))) (Pur H0) := by
  refine zR.start (cc := cJ18_checkIndex) (by decide) (Nat.le_of_ble_eq_true rfl) ?_
  intro p e s m args below meth c Q cx hQ hmn ls hl
  have hx := cx.1
  have hb := cx.2.1
  have hS : va_S (Pur H0) H0 H0 [] := va_S.rf
  have hl : lv_has ls 2 [(0, .int (iI ↑i)), (1, .int (iI ↑n))] := hl
  refine lv_iload_n hx hb dJ18_checkIndex_0 rfl (lv_at hl 0 rfl) ?_
  refine lv_iload_n hx hb dJ18_checkIndex_1 rfl (lv_at hl 1 rfl) ?_
  refine lv_null hx hb dJ18_checkIndex_2 ?_
  refine z_callS cx (j := 3) (m_J8_checkIndex G l _ i n none ⟨h.1, by omega⟩ (mc := 0) (ms := 0)) (lw_S q556 q182 q43 q183) (by decide +kernel) rfl (rest := []) rfl hl (Nat.le_of_ble_eq_true rfl) (by decide) (by omega) dJ18_checkIndex_3 hS (fun q h => Nat.le_trans hS.1 h) (fun v3 H locs hp3 hz9 hk9 hS => ?_)
  have hE9 := Ext.of hz9 hk9 (fun q h => h)
  subst hp3
  exact z_iret cx hQ rfl rfl rfl hS (by omega) dJ18_checkIndex_6
set_option maxHeartbeats 4000000 in
set_option maxRecDepth 100000 in
theorem m_J2_get (G : zE) (l : Launch) (H0 : Heap) (a ed i cap : Nat) (rs : List Nat) (u0 : Value) (h : Ob G H0 a 8 [u0, .ref ed, .int (iI (rs.length : Int))]) (h2 : EDok G H0 ed rs cap) (hi : i < rs.length ∧ rs.length ≤ 100000) {mc ms : Nat}  : zR G l yJ2_get (ws_ yJ2_get cJ2_get 2 (some (FieldType.object "java/lang/Object"))) 2 43 mc ms [.ref a, .int (iI ↑i)] H0 (fun r _ => r = .ref (rs.getD i 0)) (Pur H0) := by
  refine zR.start (cc := cJ2_get) (by decide) (Nat.le_of_ble_eq_true rfl) ?_
  intro p e s m args below meth c Q cx hQ hmn ls hl
  have hx := cx.1
  have hb := cx.2.1
  have hS : va_S (Pur H0) H0 H0 [] := va_S.rf
  have hl : lv_has ls 2 [(0, .ref a), (1, .int (iI ↑i))] := hl
  refine lv_iload_n hx hb dJ2_get_0 rfl (lv_at hl 1 rfl) ?_
  refine lv_aload_n hx hb dJ2_get_1 rfl (lv_at hl 0 rfl) ?_
  refine z_get cx (k0 := 2) h rfl in_J2 (by decide) q89 rfl rfl dJ2_get_2 ?_
  refine z_callS cx (j := 2) (m_J18_checkIndex G l _ i rs.length hi (mc := 0) (ms := 0)) (lw_S q553 q554 q54 q555) (by decide +kernel) rfl (rest := []) rfl hl (Nat.le_of_ble_eq_true rfl) (by decide) (by omega) dJ2_get_5 hS (fun q h => Nat.le_trans hS.1 h) (fun v5 H locs hp5 hz9 hk9 hS => ?_)
  have hE9 := Ext.of hz9 hk9 (fun q h => h)
  subst hp5
  refine lv_pop hx hb dJ2_get_8 rfl ?_
  refine lv_aload_n hx hb dJ2_get_9 rfl (lv_at hl 0 rfl) ?_
  refine lv_iload_n hx hb dJ2_get_10 rfl (lv_at hl 1 rfl) ?_
  refine z_callV cx (j := 1) (m_J2_elementData G l _ a ed i cap rs u0 (.int (iI (rs.length : Int))) (h.ext (Ext.ofS hS)) (h2.ext (Ext.ofS hS)) hi (mc := 0) (ms := 0)) (lw_V q557 q558 q559 q35 q560) (zrecv cx (h.ext (Ext.ofS hS)) rfl) (by decide +kernel) rfl (rest := []) rfl hl (Nat.le_of_ble_eq_true rfl) (by decide) (by omega) dJ2_get_11 hS (fun q h => Nat.le_trans hS.1 h) (fun v11 H locs hp11 hz9 hk9 hS => ?_)
  have hE9 := Ext.of hz9 hk9 (fun q h => h)
  subst hp11
  exact z_aret cx hQ rfl (Or.inl ⟨_, rfl⟩) rfl hS (by omega) dJ2_get_14
