/-! ===== the component: typing ===== -/
set_option maxHeartbeats 4000000 in
set_option maxRecDepth 100000 in
theorem m_X1_type (G : zE) (l : Launch) (H0 : Heap) (x tp : Nat) (w : Int64) (z : Int) (tape pad : List Int) (u1 u2 u3 u5 u6 u7 : Value) (hx9 : Ob G H0 x 0 [.ref tp, u1, u2, u3, .int (iI (tape.length : Int)), u5, u6, u7]) (htp : Ai G H0 tp 100 (tape ++ pad)) (hz : rg z) (hn : tape.length + pad.length = 300) {mc ms : Nat}  : zR G l yX1_type (ws_ yX1_type cX1_type 6 (some FieldType.boolean)) 0 0 mc ms [.ref x, .long w, .int (iI z)] H0 (fun r H1 => (tyOk w z tape.length = true → r = .int (iI 1) ∧ Ob G H1 x 0 [.ref tp, u1, u2, u3, .int (iI ((tape.length + z.toNat : Nat) : Int)), u5, u6, u7] ∧ Ai G H1 tp 100 ((tape ++ tyH w z.toNat z.toNat) ++ pad.drop z.toNat)) ∧ (tyOk w z tape.length = false → r = .int (iI 0) ∧ Ob G H1 x 0 [.ref tp, u1, u2, u3, .int (iI (tape.length : Int)), u5, u6, u7] ∧ Ai G H1 tp 100 (tape ++ pad))) (fun q => H0.size ≤ q ∨ q = x ∨ q = tp) := by
  refine zR.start (cc := cX1_type) (by decide) (Nat.le_of_ble_eq_true rfl) ?_
  intro p e s m args below meth c Q cx hQ hmn ls hl
  have hx := cx.1
  have hb := cx.2.1
  have hS : va_S (fun q => H0.size ≤ q ∨ q = x ∨ q = tp) H0 H0 [] := va_S.rf
  have hl : lv_has ls 6 [(0, .ref x), (1, .long w), (3, .int (iI z))] := hl
  have hxt : tp ≠ x := htp.cl.ne hx9.cl cx.kk rfl
  refine lv_iload_n hx hb dX1_type_0 rfl (lv_at hl 2 rfl) ?_
  refine lv_iconst (v := iI (1)) hx hb dX1_type_1 rfl ?_
  refine z_icmp_lt cx (tgt := 23) dX1_type_2 (by decide) (by omega) (fun c2 => ?_) (fun c2 => ?_)
  · have e9 : tyOk w z tape.length = false := by unfold tyOk; rw [decide_eq_false (by omega)]; rfl
    refine lv_iconst (v := iI (0)) hx hb dX1_type_23 rfl ?_
    exact z_iret cx hQ rfl rfl (⟨fun h => (by rw [e9] at h; cases h), fun _ => ⟨rfl, hx9, htp⟩⟩) hS (by omega) dX1_type_24
  · refine lv_iload_n hx hb dX1_type_5 rfl (lv_at hl 2 rfl) ?_
    refine lv_bipush (v := iI (8)) hx hb dX1_type_6 (by decide) ?_
    refine z_icmp_gt cx (tgt := 23) dX1_type_8 (by decide) (by omega) (fun c8 => ?_) (fun c8 => ?_)
    · have e9 : tyOk w z tape.length = false := by unfold tyOk; rw [decide_eq_false (by omega)]; rfl
      refine lv_iconst (v := iI (0)) hx hb dX1_type_23 rfl ?_
      exact z_iret cx hQ rfl rfl (⟨fun h => (by rw [e9] at h; cases h), fun _ => ⟨rfl, hx9, htp⟩⟩) hS (by omega) dX1_type_24
    · obtain ⟨N, rfl⟩ : ∃ N : Nat, z = N := ⟨z.toNat, by omega⟩
      have eN : ((N : Nat) : Int).toNat = N := Int.toNat_natCast N
      refine lv_aload_n hx hb dX1_type_11 rfl (lv_at hl 0 rfl) ?_
      refine z_get cx (k0 := 4) hx9 rfl in_X1 (by decide) q676 rfl rfl dX1_type_12 ?_
      refine lv_iload_n hx hb dX1_type_15 rfl (lv_at hl 2 rfl) ?_
      refine z_iadd cx (z := ((tape.length + N : Nat) : Int)) dX1_type_16 (by omega) ?_
      refine lv_sipush (v := iI (300)) hx hb dX1_type_17 (by decide) ?_
      refine z_icmp_le cx (tgt := 25) dX1_type_20 (by decide) (by omega) (fun c20 => ?_) (fun c20 => ?_)
      · refine lv_iconst (v := iI (0)) hx hb dX1_type_25 rfl ?_
        refine lv_istore (lv' := [(4, .int (iI 0)), (0, .ref x), (1, .long w), (3, .int (iI ↑N))]) hx hb dX1_type_26 hl (by decide) rfl (fun ls hl => ?_)
        have lp2 : ∀ (fuel : Nat) (j : Nat) (y : Int), (N - j) < fuel → (j ≤ N) → (y = (N : Int) - 1 - j) → ((List.range N).all (fun k => okc (bc w k)) = true) → (tape.length + N ≤ 300 ∧ 1 ≤ N ∧ N ≤ 8) → ∀ (H : Heap) (locs : List Loc) (ls : Array Slot) (k n : Nat), va_S (fun q => H0.size ≤ q ∨ q = x ∨ q = tp) H0 H locs → Ob G H x 0 [.ref tp, u1, u2, u3, .int (iI ((tape.length + j : Nat) : Int)), u5, u6, u7] → Ai G H tp 100 ((tape ++ tyH w N j) ++ pad.drop j) → (k ≤ mc) → (n ≤ ms) → lv_has ls 6 [(0, .ref x), (1, .long w), (3, .int (iI ↑N)), (4, .int (iI y))] → W p l e ⟨0, mc, ms, 0⟩ s m args below meth c H locs k n Q (F0 m 82 ls []) := by
          intro fuel
          induction fuel with
          | zero => intro j y hf9; exact absurd hf9 (Nat.not_lt_zero _)
          | succ fuel ih_lp2 =>
            intro j y hf9 hj hyj hok hN3 H locs ls k n hS hx9 htp hr1 hr2 hl
            have hL : ((tape ++ tyH w N j) ++ pad.drop j).length = 300 := by rw [List.length_append, List.length_append, tyH_len, List.length_drop]; omega
            refine lv_iload hx hb dX1_type_82 (lv_at hl 3 rfl) ?_
            refine z_if_lt cx (tgt := 121) dX1_type_84 (by decide) (by omega) (fun c84 => ?_) (fun c84 => ?_)
            · obtain rfl : j = N := by omega
              have e9 : tyOk w j tape.length = true := by unfold tyOk; rw [decide_eq_true (by omega), eN, hok]; rfl
              refine lv_iconst (v := iI (1)) hx hb dX1_type_121 rfl ?_
              exact z_iret cx hQ rfl rfl (⟨fun _ => ⟨rfl, by rw [eN]; exact hx9, by rw [eN]; exact htp⟩, fun h => (by rw [e9] at h; cases h)⟩) hS (by omega) dX1_type_122
            · obtain rfl : y = ((N - 1 - j : Nat) : Int) := by omega
              have hs9 : N - 1 - j < 8 := by omega
              have hoc := List.all_eq_true.mp hok (N - 1 - j) (List.mem_range.mpr (by omega))
              have hoc2 := of_decide_eq_true hoc
              refine lv_aload_n hx hb dX1_type_87 rfl (lv_at hl 0 rfl) ?_
              refine z_get cx (k0 := 0) hx9 rfl in_X1 (by decide) q672 rfl rfl dX1_type_88 ?_
              refine lv_aload_n hx hb dX1_type_91 rfl (lv_at hl 0 rfl) ?_
              refine z_get cx (k0 := 4) hx9 rfl in_X1 (by decide) q676 rfl rfl dX1_type_92 ?_
              refine lv_lload_n hx hb dX1_type_95 rfl (lv_at hl 1 rfl) ?_
              refine lv_bipush (v := iI (8)) hx hb dX1_type_96 (by decide) ?_
              refine lv_iload hx hb dX1_type_98 (lv_at hl 3 rfl) ?_
              refine z_imul cx (z := 8 * ((N - 1 - j : Nat) : Int)) dX1_type_100 (by omega) ?_
              refine lv_lshr (v := (w >>> ((iI (8 * ((N - 1 - j : Nat) : Int))).toInt64 &&& 63))) hx hb dX1_type_101 rfl ?_
              refine lv_l2i (v := (w >>> ((iI (8 * ((N - 1 - j : Nat) : Int))).toInt64 &&& 63)).toInt32) hx hb dX1_type_102 rfl ?_
              refine lv_i2b (v := iI (bc w (N - 1 - j))) hx hb dX1_type_103 (bc_b w hs9 hoc) ?_
              refine z_bast cx htp (Or.inr (Or.inr rfl)) hS ((tape.length + j)) (by omega) (by omega) dX1_type_104 (fun H locs htp hz9 hq9 hS => ?_)
              have hx9 := hx9.kept (hq9 _ (Ne.symm hxt))
              refine lv_aload_n hx hb dX1_type_105 rfl (lv_at hl 0 rfl) ?_
              refine lv_dup hx hb dX1_type_106 rfl ?_
              refine z_get cx (k0 := 4) hx9 rfl in_X1 (by decide) q676 rfl rfl dX1_type_107 ?_
              refine lv_iconst (v := iI (1)) hx hb dX1_type_110 rfl ?_
              refine z_iadd cx (z := ((tape.length + (j + 1) : Nat) : Int)) dX1_type_111 (by omega) ?_
              refine z_put cx (k0 := 4) (vs' := [.ref tp, u1, u2, u3, .int (iI ((tape.length + (j + 1) : Nat) : Int)), u5, u6, u7]) hx9 (Or.inr (Or.inl rfl)) hS rfl in_X1 tyX1_ok nmX1 (by decide) q676 rfl rfl  rfl (Nat.le_of_ble_eq_true rfl) ⟨rfl, rfl⟩ dX1_type_112 (fun H locs hx9 hz9 hq9 hS => ?_)
              have htp := htp.kept (hq9 _ hxt)
              refine z_iinc cx (j := 3) (z := ((N - 1 - j : Nat) : Int) - 1) (lv' := [(4, .int (iI (((N - 1 - j : Nat) : Int) - 1))), (0, .ref x), (1, .long w), (3, .int (iI ↑N))]) dX1_type_115 hl rfl (by omega) (by decide) rfl (fun ls hl => ?_)
              rw [fill_pad (by rw [List.length_append, tyH_len]) (by omega), List.append_assoc tape, ← tyH_s] at htp
              refine lv_goto (tgt := 82) hx hb dX1_type_118 (by decide) ?_
              exact ih_lp2 (j + 1) (((N - 1 - j : Nat) : Int) - 1) (by omega) (by omega) (by omega) hok hN3 _ _ _ _ _ hS hx9 htp (by omega) (by omega) (lv_sub hl [1, 2, 3, 0] rfl)
        have lp1 : ∀ (fuel : Nat) (j : Nat), (N - j) < fuel → (j ≤ N) → (∀ i, i < j → okc (bc w i) = true) → ∀ (H : Heap) (locs : List Loc) (ls : Array Slot) (k n : Nat), va_S (fun q => H0.size ≤ q ∨ q = x ∨ q = tp) H0 H locs → Ob G H x 0 [.ref tp, u1, u2, u3, .int (iI ↑tape.length), u5, u6, u7] → Ai G H tp 100 (tape ++ pad) → (k ≤ mc) → (n ≤ ms) → lv_has ls 6 [(0, .ref x), (1, .long w), (3, .int (iI ↑N)), (4, .int (iI ↑j))] → W p l e ⟨0, mc, ms, 0⟩ s m args below meth c H locs k n Q (F0 m 28 ls []) := by
          intro fuel
          induction fuel with
          | zero => intro j hf9; exact absurd hf9 (Nat.not_lt_zero _)
          | succ fuel ih_lp1 =>
            intro j hf9 hj hok H locs ls k n hS hx9 htp hr1 hr2 hl
            have hrg := rg_bc w j
            refine lv_iload hx hb dX1_type_28 (lv_at hl 3 rfl) ?_
            refine lv_iload_n hx hb dX1_type_30 rfl (lv_at hl 2 rfl) ?_
            refine z_icmp_ge cx (tgt := 77) dX1_type_31 (by decide) (by omega) (fun c31 => ?_) (fun c31 => ?_)
            · refine lv_iload_n hx hb dX1_type_77 rfl (lv_at hl 2 rfl) ?_
              refine lv_iconst (v := iI (1)) hx hb dX1_type_78 rfl ?_
              refine z_isub cx (z := (N : Int) - 1) dX1_type_79 (by omega) ?_
              refine lv_istore (lv' := [(4, .int (iI ((N : Int) - 1))), (0, .ref x), (1, .long w), (3, .int (iI ↑N))]) hx hb dX1_type_80 hl (by decide) rfl (fun ls hl => ?_)
              exact lp2 _ 0 ((N : Int) - 1) (Nat.lt_succ_self _) (by omega) (by omega) (List.all_eq_true.mpr (fun i hi => hok i (by have := List.mem_range.mp hi; omega))) (by omega) _ _ _ _ _ hS hx9 (by rw [show tyH w N 0 = [] from rfl, List.append_nil, List.drop_zero]; exact htp) (by omega) (by omega) (lv_sub hl [1, 2, 3, 0] rfl)
            · have hno : okc (bc w j) = false → tyOk w N tape.length = false := fun h => by
                unfold tyOk
                rw [eN]
                cases h9 : (List.range N).all (fun k => okc (bc w k)) with
                | false => rw [Bool.and_false]
                | true => have := List.all_eq_true.mp h9 j (List.mem_range.mpr (by omega)); rw [h] at this; cases this
              refine lv_lload_n hx hb dX1_type_34 rfl (lv_at hl 1 rfl) ?_
              refine lv_bipush (v := iI (8)) hx hb dX1_type_35 (by decide) ?_
              refine lv_iload hx hb dX1_type_37 (lv_at hl 3 rfl) ?_
              refine z_imul cx (z := 8 * ↑j) dX1_type_39 (by omega) ?_
              refine lv_lshr (v := (w >>> ((iI (8 * ↑j)).toInt64 &&& 63))) hx hb dX1_type_40 rfl ?_
              refine lv_ldc2 hx hb cx.wn (cx.ts _ q701) dX1_type_41 ?_
              refine lv_land hx hb dX1_type_44 ?_
              refine lv_l2i (v := iI (bc w j)) hx hb dX1_type_45 (bc_i2 w (by omega)) ?_
              refine lv_istore (lv' := [(5, .int (iI (bc w j))), (0, .ref x), (1, .long w), (3, .int (iI ↑N)), (4, .int (iI ↑j))]) hx hb dX1_type_46 hl (by decide) rfl (fun ls hl => ?_)
              refine lv_iload hx hb dX1_type_48 (lv_at hl 0 rfl) ?_
              refine lv_bipush (v := iI (10)) hx hb dX1_type_50 (by decide) ?_
              refine z_icmp_eq cx (tgt := 71) dX1_type_52 (by decide) (by omega) (fun c52 => ?_) (fun c52 => ?_)
              · refine z_iinc cx (j := 4) (z := ((j + 1 : Nat) : Int)) (lv' := [(4, .int (iI ((j + 1 : Nat) : Int))), (5, .int (iI (bc w j))), (0, .ref x), (1, .long w), (3, .int (iI ↑N))]) dX1_type_71 hl rfl (by omega) (by decide) rfl (fun ls hl => ?_)
                refine lv_goto (tgt := 28) hx hb dX1_type_74 (by decide) ?_
                exact ih_lp1 (j + 1) (by omega) (by omega) (fun i hi => by rcases Nat.lt_or_ge i j with q | q; exact hok i q; rw [show i = j by omega, okc, decide_eq_true (Or.inl c52)]) _ _ _ _ _ hS hx9 htp (by omega) (by omega) (lv_sub hl [2, 3, 4, 0] rfl)
              · refine lv_iload hx hb dX1_type_55 (lv_at hl 0 rfl) ?_
                refine lv_bipush (v := iI (32)) hx hb dX1_type_57 (by decide) ?_
                refine z_icmp_lt cx (tgt := 69) dX1_type_59 (by decide) (by omega) (fun c59 => ?_) (fun c59 => ?_)
                · have e9 := hno (by rw [okc, decide_eq_false (by omega)])
                  refine lv_iconst (v := iI (0)) hx hb dX1_type_69 rfl ?_
                  exact z_iret cx hQ rfl rfl (⟨fun h => (by rw [e9] at h; cases h), fun _ => ⟨rfl, hx9, htp⟩⟩) hS (by omega) dX1_type_70
                · refine lv_iload hx hb dX1_type_62 (lv_at hl 0 rfl) ?_
                  refine lv_bipush (v := iI (126)) hx hb dX1_type_64 (by decide) ?_
                  refine z_icmp_le cx (tgt := 71) dX1_type_66 (by decide) (by omega) (fun c66 => ?_) (fun c66 => ?_)
                  · refine z_iinc cx (j := 4) (z := ((j + 1 : Nat) : Int)) (lv' := [(4, .int (iI ((j + 1 : Nat) : Int))), (5, .int (iI (bc w j))), (0, .ref x), (1, .long w), (3, .int (iI ↑N))]) dX1_type_71 hl rfl (by omega) (by decide) rfl (fun ls hl => ?_)
                    refine lv_goto (tgt := 28) hx hb dX1_type_74 (by decide) ?_
                    exact ih_lp1 (j + 1) (by omega) (by omega) (fun i hi => by rcases Nat.lt_or_ge i j with q | q; exact hok i q; rw [show i = j by omega, okc, decide_eq_true (Or.inr (by omega))]) _ _ _ _ _ hS hx9 htp (by omega) (by omega) (lv_sub hl [2, 3, 4, 0] rfl)
                  · have e9 := hno (by rw [okc, decide_eq_false (by omega)])
                    refine lv_iconst (v := iI (0)) hx hb dX1_type_69 rfl ?_
                    exact z_iret cx hQ rfl rfl (⟨fun h => (by rw [e9] at h; cases h), fun _ => ⟨rfl, hx9, htp⟩⟩) hS (by omega) dX1_type_70
        exact lp1 _ 0 (Nat.lt_succ_self _) (by omega) (fun i hi => absurd hi (Nat.not_lt_zero _)) _ _ _ _ _ hS hx9 htp (by omega) (by omega) (lv_sub hl [1, 2, 3, 0] rfl)
      · have e9 : tyOk w N tape.length = false := by unfold tyOk; rw [decide_eq_false (by omega)]; rfl
        refine lv_iconst (v := iI (0)) hx hb dX1_type_23 rfl ?_
        exact z_iret cx hQ rfl rfl (⟨fun h => (by rw [e9] at h; cases h), fun _ => ⟨rfl, hx9, htp⟩⟩) hS (by omega) dX1_type_24
