/-! ===== the JDK: the builder makes room ===== -/
set_option maxHeartbeats 4000000 in
set_option maxRecDepth 100000 in
theorem m_J3_ensureCapacityInternal (G : zE) (l : Launch) (H0 : Heap) (a b n : Nat) (xs : List Int) (u2 u3 : Value) (hB : Bh G H0) (hab : G.2.heap.size ≤ a) (h : Ob G H0 a 9 [.ref b, .int (iI 0), u2, u3]) (h2 : Ai G H0 b 100 xs) (hch : chs xs) (hn : xs.length ≤ 45000 ∧ n ≤ 90000) {mc ms : Nat} (hmc : (if n ≤ xs.length then 0 else 1) ≤ mc) (hms : (if n ≤ xs.length then 0 else max n (2 * xs.length + 2)) ≤ ms) : zV G l yJ3_ensureCapacityInternal (ws_ yJ3_ensureCapacityInternal cJ3_ensureCapacityInternal 3 (none)) 3 82 mc ms [.ref a, .int (iI ↑n)] H0 (fun H1 => ∃ d : Nat, Ob G H1 a 9 [.ref d, .int (iI 0), u2, u3] ∧ Ai G H1 d 100 (xs ++ List.replicate (if n ≤ xs.length then 0 else max n (2 * xs.length + 2) - xs.length) 0) ∧ ((d = b ∧ n ≤ xs.length) ∨ H0.size ≤ d)) (fun q => H0.size ≤ q ∨ q = a) := by
  refine zV.start (cc := cJ3_ensureCapacityInternal) (by decide) (Nat.le_of_ble_eq_true rfl) ?_
  intro p e s m args below meth c Q cx hQ hmn ls hl
  have hx := cx.1
  have hb := cx.2.1
  have hS : va_S (fun q => H0.size ≤ q ∨ q = a) H0 H0 [] := va_S.rf
  have hl : lv_has ls 3 [(0, .ref a), (1, .int (iI ↑n))] := hl
  have hba : b ≠ a := h2.cl.ne h.cl cx.kk rfl
  refine lv_aload_n hx hb dJ3_ensureCapacityInternal_0 rfl (lv_at hl 0 rfl) ?_
  refine z_get cx (k0 := 0) h rfl in_J4 (by decide) q143 rfl rfl dJ3_ensureCapacityInternal_1 ?_
  refine z_alenB cx h2 dJ3_ensureCapacityInternal_4 ?_
  refine lv_aload_n hx hb dJ3_ensureCapacityInternal_5 rfl (lv_at hl 0 rfl) ?_
  refine z_get cx (k0 := 1) h rfl in_J4 (by decide) q144 rfl rfl dJ3_ensureCapacityInternal_6 ?_
  refine z_ishr0 cx dJ3_ensureCapacityInternal_9 ?_
  refine lv_istore_n (lv' := [(2, .int (iI ↑xs.length)), (0, .ref a), (1, .int (iI ↑n))]) hx hb dJ3_ensureCapacityInternal_10 rfl hl (by decide) rfl (fun ls hl => ?_)
  refine lv_iload_n hx hb dJ3_ensureCapacityInternal_11 rfl (lv_at hl 2 rfl) ?_
  refine lv_iload_n hx hb dJ3_ensureCapacityInternal_12 rfl (lv_at hl 0 rfl) ?_
  refine z_isub cx (z := (n : Int) - xs.length) dJ3_ensureCapacityInternal_13 (by omega) ?_
  refine z_if_le cx (tgt := 38) dJ3_ensureCapacityInternal_14 (by decide) (by omega) (fun c14 => ?_) (fun c14 => ?_)
  · have hle : n ≤ xs.length := by omega
    exact z_vret cx hQ rfl (by rw [if_pos hle, List.replicate_zero, List.append_nil]; exact ⟨b, h, h2, Or.inl ⟨rfl, hle⟩⟩) hS (by omega) dJ3_ensureCapacityInternal_38
  · have hlt : ¬ n ≤ xs.length := by omega
    rw [if_neg hlt] at hmc hms
    have hmx : xs.length + max (n - xs.length) (xs.length + 2) = max n (2 * xs.length + 2) := by omega
    refine lv_aload_n hx hb dJ3_ensureCapacityInternal_17 rfl (lv_at hl 1 rfl) ?_
    refine lv_aload_n hx hb dJ3_ensureCapacityInternal_18 rfl (lv_at hl 1 rfl) ?_
    refine z_get cx (k0 := 0) h rfl in_J4 (by decide) q143 rfl rfl dJ3_ensureCapacityInternal_19 ?_
    refine lv_aload_n hx hb dJ3_ensureCapacityInternal_22 rfl (lv_at hl 1 rfl) ?_
    refine lv_iload_n hx hb dJ3_ensureCapacityInternal_23 rfl (lv_at hl 2 rfl) ?_
    refine z_callP cx (j := 1) (m_J3_newCapacity G l _ a b n xs u2 u3 hB h h2 (by omega) (mc := 0) (ms := 0)) (lw_meth q217) q38 q214 q216 q1409 q215 (zrecvP cx h rfl) (by decide +kernel) rfl (rest := [.ref b, .ref a]) rfl hl (Nat.le_of_ble_eq_true rfl) (by decide) (by omega) dJ3_ensureCapacityInternal_24 hS (fun q h => Or.inl (Nat.le_trans hS.1 h)) (fun v24 H locs hp24 hz9 hk9 hS => ?_)
    have hE9 := Ext.of hz9 hk9 (fun q h => h)
    have h := h.ext hE9
    have h2 := h2.ext hE9
    subst hp24
    have hc1 := cx
    refine lv_aload_n hx hb dJ3_ensureCapacityInternal_27 rfl (lv_at hl 1 rfl) ?_
    refine z_get cx (k0 := 1) h rfl in_J4 (by decide) q144 rfl rfl dJ3_ensureCapacityInternal_28 ?_
    refine z_ishl0 cx dJ3_ensureCapacityInternal_31 ?_
    have hms9 : max n (2 * xs.length + 2) ≤ ms := hms
    rw [hmx]
    refine z_callS cx (j := 2) (m_J11_copyOf G l _ b (max n (2 * xs.length + 2)) xs (Sb.of cx.kk h2) hch (by omega) (mc := 1) (ms := max n (2 * xs.length + 2)) (Nat.le_refl _) (Nat.le_refl _)) (lw_S q229 q230 q46 q231) (by decide +kernel) rfl (rest := [.ref a]) rfl hl (Nat.le_of_ble_eq_true rfl) (by decide) (by omega) dJ3_ensureCapacityInternal_32 hS (fun q h => Or.inl (Nat.le_trans hS.1 h)) (fun v32 H locs hp32 hz9 hk9 hS => ?_)
    have hE9 := Ext.of hz9 hk9 (fun q h => h)
    obtain ⟨d, rfl, hgd, Ad⟩ := hp32
    have h := h.ext hE9
    have h2 := h2.ext hE9
    have hda : d ≠ a := Ad.cl.ne h.cl cx.kk rfl
    refine z_put cx (k0 := 0) (vs' := [.ref d, .int (iI 0), u2, u3]) h (Or.inr rfl) hS rfl in_J4 tyJ4_ok nmJ4 (by decide) q143 rfl rfl  rfl (Nat.le_of_ble_eq_true rfl) ⟨rfl, rfl⟩ dJ3_ensureCapacityInternal_35 (fun H locs h hz9 hq9 hS => ?_)
    have h2 := h2.kept (hq9 _ hba)
    have Ad := Ad.kept (hq9 _ hda)
    exact z_vret cx hQ rfl (by rw [if_neg hlt]; exact ⟨d, h, Ad, Or.inr (by have := hS.1; omega)⟩) hS (by omega) dJ3_ensureCapacityInternal_38
