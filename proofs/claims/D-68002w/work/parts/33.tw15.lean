/-! ===== the model: typing, and the short ones ===== -/
set_option maxHeartbeats 4000000 in
set_option maxRecDepth 100000 in
theorem m_X4_type (G : zE) (l : Launch) (H0 : Heap) (x tp : Nat) (w : Int64) (z : Int) (tape pad : List Int) (u2 u3 u4 u5 u6 u7 u8 : Value) (hx9 : Ob G H0 x 5 [.ref tp, .int (iI (tape.length : Int)), u2, u3, u4, u5, u6, u7, u8]) (htp : Ai G H0 tp 101 (tape ++ pad)) (hz : rg z) (hn : tape.length + pad.length = 300) {mc ms : Nat}  : zR G l yX4_type (ws_ yX4_type cX4_type 6 (some FieldType.boolean)) 0 0 mc ms [.ref x, .long w, .int (iI z)] H0 (fun r H1 => (tyOk w z tape.length = true → r = .int (iI 1) ∧ Ob G H1 x 5 [.ref tp, .int (iI ((tape.length + z.toNat : Nat) : Int)), u2, u3, .int (iI 0), u5, u6, u7, u8] ∧ Ai G H1 tp 101 ((tape ++ tyH w z.toNat z.toNat) ++ pad.drop z.toNat)) ∧ (tyOk w z tape.length = false → r = .int (iI 0) ∧ Ob G H1 x 5 [.ref tp, .int (iI (tape.length : Int)), u2, u3, .int (iI 0), u5, u6, u7, u8] ∧ Ai G H1 tp 101 (tape ++ pad))) (fun q => H0.size ≤ q ∨ q = x ∨ q = tp) := by
  refine zR.start (cc := cX4_type) (by decide) (Nat.le_of_ble_eq_true rfl) ?_
  intro p e s m args below meth c Q cx hQ hmn ls hl
  have hx := cx.1
  have hb := cx.2.1
  have hS : va_S (fun q => H0.size ≤ q ∨ q = x ∨ q = tp) H0 H0 [] := va_S.rf
  have hl : lv_has ls 6 [(0, .ref x), (1, .long w), (3, .int (iI z))] := hl
  have hxt : tp ≠ x := htp.cl.ne hx9.cl cx.kk rfl
  refine lv_aload_n hx hb dX4_type_0 rfl (lv_at hl 0 rfl) ?_
  refine lv_iconst (v := iI (0)) hx hb dX4_type_1 rfl ?_
  refine z_put cx (k0 := 4) (vs' := [.ref tp, .int (iI ↑tape.length), u2, u3, .int (iI 0), u5, u6, u7, u8]) hx9 (Or.inr (Or.inl rfl)) hS rfl in_X4 tyX4_ok nmX4 (by decide) q1159 rfl rfl  rfl (Nat.le_of_ble_eq_true rfl) ⟨rfl, rfl⟩ dX4_type_2 (fun H locs hx9 hz9 hq9 hS => ?_)
  have htp := htp.kept (hq9 _ hxt)
  refine lv_iload_n hx hb dX4_type_5 rfl (lv_at hl 2 rfl) ?_
  refine lv_iconst (v := iI (1)) hx hb dX4_type_6 rfl ?_
  refine z_icmp_lt cx (tgt := 28) dX4_type_7 (by decide) (by omega) (fun c7 => ?_) (fun c7 => ?_)
  · have e9 : tyOk w z tape.length = false := by unfold tyOk; rw [decide_eq_false (by omega)]; rfl
    refine lv_iconst (v := iI (0)) hx hb dX4_type_28 rfl ?_
    exact z_iret cx hQ rfl rfl (⟨fun h => (by rw [e9] at h; cases h), fun _ => ⟨rfl, hx9, htp⟩⟩) hS (by omega) dX4_type_29
  · refine lv_iload_n hx hb dX4_type_10 rfl (lv_at hl 2 rfl) ?_
    refine lv_bipush (v := iI (8)) hx hb dX4_type_11 (by decide) ?_
    refine z_icmp_gt cx (tgt := 28) dX4_type_13 (by decide) (by omega) (fun c13 => ?_) (fun c13 => ?_)
    · have e9 : tyOk w z tape.length = false := by unfold tyOk; rw [decide_eq_false (by omega)]; rfl
      refine lv_iconst (v := iI (0)) hx hb dX4_type_28 rfl ?_
      exact z_iret cx hQ rfl rfl (⟨fun h => (by rw [e9] at h; cases h), fun _ => ⟨rfl, hx9, htp⟩⟩) hS (by omega) dX4_type_29
    · obtain ⟨N, rfl⟩ : ∃ N : Nat, z = N := ⟨z.toNat, by omega⟩
      have eN : ((N : Nat) : Int).toNat = N := Int.toNat_natCast N
      refine lv_aload_n hx hb dX4_type_16 rfl (lv_at hl 0 rfl) ?_
      refine z_get cx (k0 := 1) hx9 rfl in_X4 (by decide) q1156 rfl rfl dX4_type_17 ?_
      refine lv_iload_n hx hb dX4_type_20 rfl (lv_at hl 2 rfl) ?_
      refine z_iadd cx (z := ((tape.length + N : Nat) : Int)) dX4_type_21 (by omega) ?_
      refine lv_sipush (v := iI (300)) hx hb dX4_type_22 (by decide) ?_
      refine z_icmp_le cx (tgt := 30) dX4_type_25 (by decide) (by omega) (fun c25 => ?_) (fun c25 => ?_)
      · refine lv_iconst (v := iI (0)) hx hb dX4_type_30 rfl ?_
        refine lv_istore (lv' := [(4, .int (iI 0)), (0, .ref x), (1, .long w), (3, .int (iI ↑N))]) hx hb dX4_type_31 hl (by decide) rfl (fun ls hl => ?_)
        have lp2 : ∀ (fuel : Nat) (j : Nat), (N - j) < fuel → (j ≤ N) → ((List.range N).all (fun k => okc (bc w k)) = true) → (tape.length + N ≤ 300 ∧ 1 ≤ N ∧ N ≤ 8) → ∀ (H : Heap) (locs : List Loc) (ls : Array Slot) (k n : Nat), va_S (fun q => H0.size ≤ q ∨ q = x ∨ q = tp) H0 H locs → Ob G H x 5 [.ref tp, .int (iI ↑tape.length), u2, u3, .int (iI 0), u5, u6, u7, u8] → Ai G H tp 101 ((tape ++ tyH w N j) ++ pad.drop j) → (k ≤ mc) → (n ≤ ms) → lv_has ls 6 [(0, .ref x), (1, .long w), (3, .int (iI ↑N)), (4, .int (iI ↑j))] → W p l e ⟨0, mc, ms, 0⟩ s m args below meth c H locs k n Q (F0 m 85 ls []) := by
          intro fuel
          induction fuel with
          | zero => intro j hf9; exact absurd hf9 (Nat.not_lt_zero _)
          | succ fuel ih_lp2 =>
            intro j hf9 hj hok hN3 H locs ls k n hS hx9 htp hr1 hr2 hl
            have hL : ((tape ++ tyH w N j) ++ pad.drop j).length = 300 := by rw [List.length_append, List.length_append, tyH_len, List.length_drop]; omega
            refine lv_iload hx hb dX4_type_85 (lv_at hl 3 rfl) ?_
            refine lv_iload_n hx hb dX4_type_87 rfl (lv_at hl 2 rfl) ?_
            refine z_icmp_ge cx (tgt := 125) dX4_type_88 (by decide) (by omega) (fun c88 => ?_) (fun c88 => ?_)
            · rw [show j = N by omega] at htp
              have e9 : tyOk w N tape.length = true := by unfold tyOk; rw [decide_eq_true (by omega), eN, hok]; rfl
              refine lv_aload_n hx hb dX4_type_125 rfl (lv_at hl 0 rfl) ?_
              refine lv_dup hx hb dX4_type_126 rfl ?_
              refine z_get cx (k0 := 1) hx9 rfl in_X4 (by decide) q1156 rfl rfl dX4_type_127 ?_
              refine lv_iload_n hx hb dX4_type_130 rfl (lv_at hl 2 rfl) ?_
              refine z_iadd cx (z := ((tape.length + N : Nat) : Int)) dX4_type_131 (by omega) ?_
              refine z_put cx (k0 := 1) (vs' := [.ref tp, .int (iI ((tape.length + N : Nat) : Int)), u2, u3, .int (iI 0), u5, u6, u7, u8]) hx9 (Or.inr (Or.inl rfl)) hS rfl in_X4 tyX4_ok nmX4 (by decide) q1156 rfl rfl  rfl (Nat.le_of_ble_eq_true rfl) ⟨rfl, rfl⟩ dX4_type_132 (fun H locs hx9 hz9 hq9 hS => ?_)
              have htp := htp.kept (hq9 _ hxt)
              refine lv_iconst (v := iI (1)) hx hb dX4_type_135 rfl ?_
              exact z_iret cx hQ rfl rfl (⟨fun _ => ⟨rfl, by rw [eN]; exact hx9, by rw [eN]; exact htp⟩, fun h => (by rw [e9] at h; cases h)⟩) hS (by omega) dX4_type_136
            · refine lv_aload_n hx hb dX4_type_91 rfl (lv_at hl 0 rfl) ?_
              refine z_get cx (k0 := 0) hx9 rfl in_X4 (by decide) q1155 rfl rfl dX4_type_92 ?_
              refine lv_aload_n hx hb dX4_type_95 rfl (lv_at hl 0 rfl) ?_
              refine z_get cx (k0 := 1) hx9 rfl in_X4 (by decide) q1156 rfl rfl dX4_type_96 ?_
              refine lv_iload hx hb dX4_type_99 (lv_at hl 3 rfl) ?_
              refine z_iadd cx (z := ((tape.length + j : Nat) : Int)) dX4_type_101 (by omega) ?_
              refine lv_lload_n hx hb dX4_type_102 rfl (lv_at hl 1 rfl) ?_
              refine lv_bipush (v := iI (8)) hx hb dX4_type_103 (by decide) ?_
              refine lv_iload_n hx hb dX4_type_105 rfl (lv_at hl 2 rfl) ?_
              refine lv_iconst (v := iI (1)) hx hb dX4_type_106 rfl ?_
              refine z_isub cx (z := ((N - 1 : Nat) : Int)) dX4_type_107 (by omega) ?_
              refine lv_iload hx hb dX4_type_108 (lv_at hl 3 rfl) ?_
              refine z_isub cx (z := ((N - 1 - j : Nat) : Int)) dX4_type_110 (by omega) ?_
              refine z_imul cx (z := 8 * ((N - 1 - j : Nat) : Int)) dX4_type_111 (by omega) ?_
              refine lv_lushr (v := (w.toUInt64 >>> ((iI (8 * ((N - 1 - j : Nat) : Int))).toInt64.toUInt64 &&& Int64.toUInt64 63)).toInt64) hx hb dX4_type_112 rfl ?_
              refine lv_ldc2 hx hb cx.wn (cx.ts _ q1191) dX4_type_113 ?_
              refine lv_land hx hb dX4_type_116 ?_
              refine lv_l2i (v := iI (bc w (N - 1 - j))) hx hb dX4_type_117 (bc_i _ _) ?_
              refine z_iast cx htp (Or.inr (Or.inr rfl)) hS (tape.length + j) (by omega) dX4_type_118 (fun H locs htp hz9 hq9 hS => ?_)
              have hx9 := hx9.kept (hq9 _ (Ne.symm hxt))
              rw [fill_pad (by rw [List.length_append, tyH_len]) (by omega), List.append_assoc tape, ← tyH_s] at htp
              refine z_iinc cx (j := 3) (z := ((j + 1 : Nat) : Int)) (lv' := [(4, .int (iI ((j + 1 : Nat) : Int))), (0, .ref x), (1, .long w), (3, .int (iI ↑N))]) dX4_type_119 hl rfl (by omega) (by decide) rfl (fun ls hl => ?_)
              refine lv_goto (tgt := 85) hx hb dX4_type_122 (by decide) ?_
              exact ih_lp2 (j + 1) (by omega) (by omega) hok hN3 _ _ _ _ _ hS hx9 htp (by omega) (by omega) (lv_sub hl [1, 2, 3, 0] rfl)
        have lp1 : ∀ (fuel : Nat) (j : Nat), (N - j) < fuel → (j ≤ N) → (∀ i, i < j → okc (bc w i) = true) → ∀ (H : Heap) (locs : List Loc) (ls : Array Slot) (k n : Nat), va_S (fun q => H0.size ≤ q ∨ q = x ∨ q = tp) H0 H locs → Ob G H x 5 [.ref tp, .int (iI ↑tape.length), u2, u3, .int (iI 0), u5, u6, u7, u8] → Ai G H tp 101 (tape ++ pad) → (k ≤ mc) → (n ≤ ms) → lv_has ls 6 [(0, .ref x), (1, .long w), (3, .int (iI ↑N)), (4, .int (iI ↑j))] → W p l e ⟨0, mc, ms, 0⟩ s m args below meth c H locs k n Q (F0 m 33 ls []) := by
          intro fuel
          induction fuel with
          | zero => intro j hf9; exact absurd hf9 (Nat.not_lt_zero _)
          | succ fuel ih_lp1 =>
            intro j hf9 hj hok H locs ls k n hS hx9 htp hr1 hr2 hl
            have hrg := rg_bc w j
            refine lv_iload hx hb dX4_type_33 (lv_at hl 3 rfl) ?_
            refine lv_iload_n hx hb dX4_type_35 rfl (lv_at hl 2 rfl) ?_
            refine z_icmp_ge cx (tgt := 82) dX4_type_36 (by decide) (by omega) (fun c36 => ?_) (fun c36 => ?_)
            · refine lv_iconst (v := iI (0)) hx hb dX4_type_82 rfl ?_
              refine lv_istore (lv' := [(4, .int (iI 0)), (0, .ref x), (1, .long w), (3, .int (iI ↑N))]) hx hb dX4_type_83 hl (by decide) rfl (fun ls hl => ?_)
              exact lp2 _ 0 (Nat.lt_succ_self _) (by omega) (List.all_eq_true.mpr (fun i hi => hok i (by have := List.mem_range.mp hi; omega))) (by omega) _ _ _ _ _ hS hx9 (by rw [show tyH w N 0 = [] from rfl, List.append_nil, List.drop_zero]; exact htp) (by omega) (by omega) (lv_sub hl [1, 2, 3, 0] rfl)
            · have hno : okc (bc w j) = false → tyOk w N tape.length = false := fun h => by
                unfold tyOk
                rw [eN]
                cases h9 : (List.range N).all (fun k => okc (bc w k)) with
                | false => rw [Bool.and_false]
                | true => have := List.all_eq_true.mp h9 j (List.mem_range.mpr (by omega)); rw [h] at this; cases this
              refine lv_lload_n hx hb dX4_type_39 rfl (lv_at hl 1 rfl) ?_
              refine lv_bipush (v := iI (8)) hx hb dX4_type_40 (by decide) ?_
              refine lv_iload hx hb dX4_type_42 (lv_at hl 3 rfl) ?_
              refine z_imul cx (z := 8 * ↑j) dX4_type_44 (by omega) ?_
              refine lv_lushr (v := (w.toUInt64 >>> ((iI (8 * ↑j)).toInt64.toUInt64 &&& Int64.toUInt64 63)).toInt64) hx hb dX4_type_45 rfl ?_
              refine lv_ldc2 hx hb cx.wn (cx.ts _ q1191) dX4_type_46 ?_
              refine lv_land hx hb dX4_type_49 ?_
              refine lv_l2i (v := iI (bc w j)) hx hb dX4_type_50 (bc_i _ _) ?_
              refine lv_istore (lv' := [(5, .int (iI (bc w j))), (0, .ref x), (1, .long w), (3, .int (iI ↑N)), (4, .int (iI ↑j))]) hx hb dX4_type_51 hl (by decide) rfl (fun ls hl => ?_)
              refine lv_iload hx hb dX4_type_53 (lv_at hl 0 rfl) ?_
              refine lv_bipush (v := iI (10)) hx hb dX4_type_55 (by decide) ?_
              refine z_icmp_eq cx (tgt := 76) dX4_type_57 (by decide) (by omega) (fun c57 => ?_) (fun c57 => ?_)
              · refine z_iinc cx (j := 4) (z := ((j + 1 : Nat) : Int)) (lv' := [(4, .int (iI ((j + 1 : Nat) : Int))), (5, .int (iI (bc w j))), (0, .ref x), (1, .long w), (3, .int (iI ↑N))]) dX4_type_76 hl rfl (by omega) (by decide) rfl (fun ls hl => ?_)
                refine lv_goto (tgt := 33) hx hb dX4_type_79 (by decide) ?_
                exact ih_lp1 (j + 1) (by omega) (by omega) (fun i hi => by rcases Nat.lt_or_ge i j with q | q; exact hok i q; rw [show i = j by omega, okc, decide_eq_true (Or.inl c57)]) _ _ _ _ _ hS hx9 htp (by omega) (by omega) (lv_sub hl [2, 3, 4, 0] rfl)
              · refine lv_iload hx hb dX4_type_60 (lv_at hl 0 rfl) ?_
                refine lv_bipush (v := iI (32)) hx hb dX4_type_62 (by decide) ?_
                refine z_icmp_lt cx (tgt := 74) dX4_type_64 (by decide) (by omega) (fun c64 => ?_) (fun c64 => ?_)
                · have e9 := hno (by rw [okc, decide_eq_false (by omega)])
                  refine lv_iconst (v := iI (0)) hx hb dX4_type_74 rfl ?_
                  exact z_iret cx hQ rfl rfl (⟨fun h => (by rw [e9] at h; cases h), fun _ => ⟨rfl, hx9, htp⟩⟩) hS (by omega) dX4_type_75
                · refine lv_iload hx hb dX4_type_67 (lv_at hl 0 rfl) ?_
                  refine lv_bipush (v := iI (126)) hx hb dX4_type_69 (by decide) ?_
                  refine z_icmp_le cx (tgt := 76) dX4_type_71 (by decide) (by omega) (fun c71 => ?_) (fun c71 => ?_)
                  · refine z_iinc cx (j := 4) (z := ((j + 1 : Nat) : Int)) (lv' := [(4, .int (iI ((j + 1 : Nat) : Int))), (5, .int (iI (bc w j))), (0, .ref x), (1, .long w), (3, .int (iI ↑N))]) dX4_type_76 hl rfl (by omega) (by decide) rfl (fun ls hl => ?_)
                    refine lv_goto (tgt := 33) hx hb dX4_type_79 (by decide) ?_
                    exact ih_lp1 (j + 1) (by omega) (by omega) (fun i hi => by rcases Nat.lt_or_ge i j with q | q; exact hok i q; rw [show i = j by omega, okc, decide_eq_true (Or.inr (by omega))]) _ _ _ _ _ hS hx9 htp (by omega) (by omega) (lv_sub hl [2, 3, 4, 0] rfl)
                  · have e9 := hno (by rw [okc, decide_eq_false (by omega)])
                    refine lv_iconst (v := iI (0)) hx hb dX4_type_74 rfl ?_
                    exact z_iret cx hQ rfl rfl (⟨fun h => (by rw [e9] at h; cases h), fun _ => ⟨rfl, hx9, htp⟩⟩) hS (by omega) dX4_type_75
        exact lp1 _ 0 (Nat.lt_succ_self _) (by omega) (fun i hi => absurd hi (Nat.not_lt_zero _)) _ _ _ _ _ hS hx9 htp (by omega) (by omega) (lv_sub hl [1, 2, 3, 0] rfl)
      · have e9 : tyOk w N tape.length = false := by unfold tyOk; rw [decide_eq_false (by omega)]; rfl
        refine lv_iconst (v := iI (0)) hx hb dX4_type_28 rfl ?_
        exact z_iret cx hQ rfl rfl (⟨fun h => (by rw [e9] at h; cases h), fun _ => ⟨rfl, hx9, htp⟩⟩) hS (by omega) dX4_type_29
