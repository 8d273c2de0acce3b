/-! ===== the model's names, lists ===== -/
set_option maxHeartbeats 4000000 in
set_option maxRecDepth 100000 in
theorem m_X4_name (G : zE) (l : Launch) (H0 : Heap) (u v : Int64) {mc ms : Nat} (hmc : 1 ≤ mc) (hms : 16 ≤ ms) : zR G l yX4_name (ws_ yX4_name cX4_name 8 (some (FieldType.array FieldType.int))) 0 0 mc ms [.long u, .long v] H0 (fun r H1 => ∃ b : Nat, r = .ref b ∧ H0.size ≤ b ∧ Ai G H1 b 101 (nmL u v)) (Pur H0) := by
  refine zR.start (cc := cX4_name) (by decide) (Nat.le_of_ble_eq_true rfl) ?_
  intro p e s m args below meth c Q cx hQ hmn ls hl
  have hx := cx.1
  have hb := cx.2.1
  have hS : va_S (Pur H0) H0 H0 [] := va_S.rf
  have hl : lv_has ls 8 [(0, .long u), (2, .long v)] := hl
  have hu8 := bn_le u 8
  have hv8 := bn_le v 8
  have lp4 : ∀ (fuel : Nat) (r j : Nat), (bn v 8 - j) < fuel → (j ≤ bn v 8) → (H0.size ≤ r) → ∀ (H : Heap) (locs : List Loc) (ls : Array Slot) (k n : Nat), va_S (Pur H0) H0 H locs → Ai G H r 101 (nmH u (bn u 8) ++ nmH v j ++ List.replicate (bn v 8 - j) 0) → (k ≤ mc) → (n ≤ ms) → lv_has ls 8 [(0, .long u), (2, .long v), (4, .int (iI ((bn u 8 : Nat) : Int))), (5, .int (iI ((bn v 8 : Nat) : Int))), (6, .ref r), (7, .int (iI ↑j))] → W p l e ⟨0, mc, ms, 0⟩ s m args below meth c H locs k n Q (F0 m 140 ls []) := by
    intro fuel
    induction fuel with
    | zero => intro r j hf9; exact absurd hf9 (Nat.not_lt_zero _)
    | succ fuel ih_lp4 =>
      intro r j hf9 hj hrr H locs ls k n hS Ar hr1 hr2 hl
      have hLr : (nmH u (bn u 8) ++ nmH v j ++ List.replicate (bn v 8 - j) 0).length = bn u 8 + bn v 8 := by rw [List.length_append, List.length_append, nmH_len, nmH_len, List.length_replicate]; omega
      refine lv_iload hx hb dX4_name_140 (lv_at hl 5 rfl) ?_
      refine lv_iload hx hb dX4_name_142 (lv_at hl 3 rfl) ?_
      refine z_icmp_ge cx (tgt := 178) dX4_name_144 (by decide) (by omega) (fun c144 => ?_) (fun c144 => ?_)
      · have e1 : j = bn v 8 := by omega
        rw [e1, Nat.sub_self, List.replicate_zero, List.append_nil] at Ar
        refine lv_aload hx hb dX4_name_178 (lv_at hl 4 rfl) ?_
        exact z_aret cx hQ rfl (Or.inr ⟨_, rfl⟩) (⟨r, rfl, hrr, Ar⟩) hS (by omega) dX4_name_180
      · refine lv_aload hx hb dX4_name_147 (lv_at hl 4 rfl) ?_
        refine lv_iload hx hb dX4_name_149 (lv_at hl 2 rfl) ?_
        refine lv_iload hx hb dX4_name_151 (lv_at hl 5 rfl) ?_
        refine z_iadd cx (z := ((bn u 8 + j : Nat) : Int)) dX4_name_153 (by omega) ?_
        refine lv_lload_n hx hb dX4_name_154 rfl (lv_at hl 1 rfl) ?_
        refine lv_bipush (v := iI (8)) hx hb dX4_name_155 (by decide) ?_
        refine lv_iload hx hb dX4_name_157 (lv_at hl 3 rfl) ?_
        refine lv_iconst (v := iI (1)) hx hb dX4_name_159 rfl ?_
        refine z_isub cx (z := ((bn v 8 - 1 : Nat) : Int)) dX4_name_160 (by omega) ?_
        refine lv_iload hx hb dX4_name_161 (lv_at hl 5 rfl) ?_
        refine z_isub cx (z := ((bn v 8 - 1 - j : Nat) : Int)) dX4_name_163 (by omega) ?_
        refine z_imul cx (z := 8 * ((bn v 8 - 1 - j : Nat) : Int)) dX4_name_164 (by omega) ?_
        refine lv_lushr (v := (v.toUInt64 >>> ((iI (8 * ((bn v 8 - 1 - j : Nat) : Int))).toInt64.toUInt64 &&& Int64.toUInt64 63)).toInt64) hx hb dX4_name_165 rfl ?_
        refine lv_ldc2 hx hb cx.wn (cx.ts _ q1191) dX4_name_166 ?_
        refine lv_land hx hb dX4_name_169 ?_
        refine lv_l2i (v := iI (bc v (bn v 8 - 1 - j))) hx hb dX4_name_170 (bc_i _ _) ?_
        refine z_iast cx Ar hrr hS (bn u 8 + j) (by omega) dX4_name_171 (fun H locs Ar hz9 hq9 hS => ?_)
        have e2 : bn v 8 - j = (bn v 8 - (j + 1)) + 1 := by omega
        rw [e2, fill_set (by rw [List.length_append, nmH_len, nmH_len]), List.append_assoc (nmH u (bn u 8)), ← nmH_s] at Ar
        refine z_iinc cx (j := 5) (z := ((j + 1 : Nat) : Int)) (lv' := [(7, .int (iI ((j + 1 : Nat) : Int))), (0, .long u), (2, .long v), (4, .int (iI ((bn u 8 : Nat) : Int))), (5, .int (iI ((bn v 8 : Nat) : Int))), (6, .ref r)]) dX4_name_172 hl rfl (by omega) (by decide) rfl (fun ls hl => ?_)
        refine lv_goto (tgt := 140) hx hb dX4_name_175 (by decide) ?_
        exact ih_lp4 r (j + 1) (by omega) (by omega) (by omega) _ _ _ _ _ hS Ar (by omega) (by omega) (lv_sub hl [1, 2, 3, 4, 5, 0] rfl)
  have lp3 : ∀ (fuel : Nat) (r j : Nat), (bn u 8 - j) < fuel → (j ≤ bn u 8) → (H0.size ≤ r) → ∀ (H : Heap) (locs : List Loc) (ls : Array Slot) (k n : Nat), va_S (Pur H0) H0 H locs → Ai G H r 101 (nmH u j ++ List.replicate (bn u 8 + bn v 8 - j) 0) → (k ≤ mc) → (n ≤ ms) → lv_has ls 8 [(0, .long u), (2, .long v), (4, .int (iI ((bn u 8 : Nat) : Int))), (5, .int (iI ((bn v 8 : Nat) : Int))), (6, .ref r), (7, .int (iI ↑j))] → W p l e ⟨0, mc, ms, 0⟩ s m args below meth c H locs k n Q (F0 m 102 ls []) := by
    intro fuel
    induction fuel with
    | zero => intro r j hf9; exact absurd hf9 (Nat.not_lt_zero _)
    | succ fuel ih_lp3 =>
      intro r j hf9 hj hrr H locs ls k n hS Ar hr1 hr2 hl
      have hLr : (nmH u j ++ List.replicate (bn u 8 + bn v 8 - j) 0).length = bn u 8 + bn v 8 := by rw [List.length_append, nmH_len, List.length_replicate]; omega
      refine lv_iload hx hb dX4_name_102 (lv_at hl 5 rfl) ?_
      refine lv_iload hx hb dX4_name_104 (lv_at hl 2 rfl) ?_
      refine z_icmp_ge cx (tgt := 137) dX4_name_106 (by decide) (by omega) (fun c106 => ?_) (fun c106 => ?_)
      · have e1 : j = bn u 8 := by omega
        refine lv_iconst (v := iI (0)) hx hb dX4_name_137 rfl ?_
        refine lv_istore (lv' := [(7, .int (iI 0)), (0, .long u), (2, .long v), (4, .int (iI ((bn u 8 : Nat) : Int))), (5, .int (iI ((bn v 8 : Nat) : Int))), (6, .ref r)]) hx hb dX4_name_138 hl (by decide) rfl (fun ls hl => ?_)
        exact lp4 _ r 0 (Nat.lt_succ_self _) (by omega) hrr _ _ _ _ _ hS (by rw [e1, show bn u 8 + bn v 8 - bn u 8 = bn v 8 - 0 by omega] at Ar; rw [show nmH v 0 = [] from rfl, List.append_nil]; exact Ar) (by omega) (by omega) (lv_sub hl [1, 2, 3, 4, 5, 0] rfl)
      · refine lv_aload hx hb dX4_name_109 (lv_at hl 4 rfl) ?_
        refine lv_iload hx hb dX4_name_111 (lv_at hl 5 rfl) ?_
        refine lv_lload_n hx hb dX4_name_113 rfl (lv_at hl 0 rfl) ?_
        refine lv_bipush (v := iI (8)) hx hb dX4_name_114 (by decide) ?_
        refine lv_iload hx hb dX4_name_116 (lv_at hl 2 rfl) ?_
        refine lv_iconst (v := iI (1)) hx hb dX4_name_118 rfl ?_
        refine z_isub cx (z := ((bn u 8 - 1 : Nat) : Int)) dX4_name_119 (by omega) ?_
        refine lv_iload hx hb dX4_name_120 (lv_at hl 5 rfl) ?_
        refine z_isub cx (z := ((bn u 8 - 1 - j : Nat) : Int)) dX4_name_122 (by omega) ?_
        refine z_imul cx (z := 8 * ((bn u 8 - 1 - j : Nat) : Int)) dX4_name_123 (by omega) ?_
        refine lv_lushr (v := (u.toUInt64 >>> ((iI (8 * ((bn u 8 - 1 - j : Nat) : Int))).toInt64.toUInt64 &&& Int64.toUInt64 63)).toInt64) hx hb dX4_name_124 rfl ?_
        refine lv_ldc2 hx hb cx.wn (cx.ts _ q1191) dX4_name_125 ?_
        refine lv_land hx hb dX4_name_128 ?_
        refine lv_l2i (v := iI (bc u (bn u 8 - 1 - j))) hx hb dX4_name_129 (bc_i _ _) ?_
        refine z_iast cx Ar hrr hS (j) (by omega) dX4_name_130 (fun H locs Ar hz9 hq9 hS => ?_)
        have e2 : bn u 8 + bn v 8 - j = (bn u 8 + bn v 8 - (j + 1)) + 1 := by omega
        rw [e2, fill_set (by rw [nmH_len]), ← nmH_s] at Ar
        refine z_iinc cx (j := 5) (z := ((j + 1 : Nat) : Int)) (lv' := [(7, .int (iI ((j + 1 : Nat) : Int))), (0, .long u), (2, .long v), (4, .int (iI ((bn u 8 : Nat) : Int))), (5, .int (iI ((bn v 8 : Nat) : Int))), (6, .ref r)]) dX4_name_131 hl rfl (by omega) (by decide) rfl (fun ls hl => ?_)
        refine lv_goto (tgt := 102) hx hb dX4_name_134 (by decide) ?_
        exact ih_lp3 r (j + 1) (by omega) (by omega) (by omega) _ _ _ _ _ hS Ar (by omega) (by omega) (lv_sub hl [1, 2, 3, 4, 5, 0] rfl)
  have lp2 : ∀ (fuel : Nat) (x j : Nat), (8 - j) < fuel → (j ≤ 8) → (x = bn v j) → ∀ (H : Heap) (locs : List Loc) (ls : Array Slot) (k n : Nat), va_S (Pur H0) H0 H locs → (k ≤ 0) → (n ≤ 0) → lv_has ls 8 [(0, .long u), (2, .long v), (4, .int (iI ((bn u 8 : Nat) : Int))), (5, .int (iI ↑x)), (6, .int (iI ↑j))] → W p l e ⟨0, mc, ms, 0⟩ s m args below meth c H locs k n Q (F0 m 51 ls []) := by
    intro fuel
    induction fuel with
    | zero => intro x j hf9; exact absurd hf9 (Nat.not_lt_zero _)
    | succ fuel ih_lp2 =>
      intro x j hf9 hj hxj H locs ls k n hS  hr1 hr2 hl
      refine lv_iload hx hb dX4_name_51 (lv_at hl 4 rfl) ?_
      refine lv_bipush (v := iI (8)) hx hb dX4_name_53 (by decide) ?_
      refine z_icmp_ge cx (tgt := 90) dX4_name_55 (by decide) (by omega) (fun c55 => ?_) (fun c55 => ?_)
      · have e1 : j = 8 := by omega
        rw [e1] at hxj
        subst hxj
        refine lv_iload hx hb dX4_name_90 (lv_at hl 2 rfl) ?_
        refine lv_iload hx hb dX4_name_92 (lv_at hl 3 rfl) ?_
        refine z_iadd cx (z := ((bn u 8 + bn v 8 : Nat) : Int)) dX4_name_94 (by omega) ?_
        refine z_newI cx hS q1152 (bn u 8 + bn v 8) (by omega) (by omega) dX4_name_95 (fun r H hr hgr Ar hz9 hE9 hS => ?_)
        refine lv_astore (lv' := [(6, .ref r), (0, .long u), (2, .long v), (4, .int (iI ((bn u 8 : Nat) : Int))), (5, .int (iI ((bn v 8 : Nat) : Int)))]) hx hb dX4_name_97 hl (by decide) rfl (fun ls hl => ?_)
        refine lv_iconst (v := iI (0)) hx hb dX4_name_99 rfl ?_
        refine lv_istore (lv' := [(7, .int (iI 0)), (6, .ref r), (0, .long u), (2, .long v), (4, .int (iI ((bn u 8 : Nat) : Int))), (5, .int (iI ((bn v 8 : Nat) : Int)))]) hx hb dX4_name_100 hl (by decide) rfl (fun ls hl => ?_)
        exact lp3 _ r 0 (Nat.lt_succ_self _) (by omega) hgr _ _ _ _ _ hS Ar (by omega) (by omega) (lv_sub hl [2, 3, 4, 5, 1, 0] rfl)
      · have hb9 := bn_le v j
        refine lv_iload hx hb dX4_name_58 (lv_at hl 3 rfl) ?_
        refine lv_lload_n hx hb dX4_name_60 rfl (lv_at hl 1 rfl) ?_
        refine lv_bipush (v := iI (8)) hx hb dX4_name_61 (by decide) ?_
        refine lv_iload hx hb dX4_name_63 (lv_at hl 4 rfl) ?_
        refine z_imul cx (z := 8 * ↑j) dX4_name_65 (by omega) ?_
        refine lv_lushr (v := (v.toUInt64 >>> ((iI (8 * ↑j)).toInt64.toUInt64 &&& Int64.toUInt64 63)).toInt64) hx hb dX4_name_66 rfl ?_
        refine lv_ldc2 hx hb cx.wn (cx.ts _ q1191) dX4_name_67 ?_
        refine lv_land hx hb dX4_name_70 ?_
        refine lv_lconst (v := 0) hx hb dX4_name_71 (by decide) ?_
        refine W.lcmp hx hb dX4_name_72 ?_
        refine lv_if_eq (tgt := 80) hx hb dX4_name_73 (by decide) (fun c73 => ?_) (fun c73 => ?_)
        · have e3 : bn v (j + 1) = x + 0 := by rw [bn, if_pos ((lg_cmp_eq _ _).mp c73), hxj]
          refine lv_iconst (v := iI (0)) hx hb dX4_name_80 rfl ?_
          refine z_iadd cx (z := ((x + 0 : Nat) : Int)) dX4_name_81 (by omega) ?_
          refine lv_istore (lv' := [(5, .int (iI ((x + 0 : Nat) : Int))), (0, .long u), (2, .long v), (4, .int (iI ((bn u 8 : Nat) : Int))), (6, .int (iI ↑j))]) hx hb dX4_name_82 hl (by decide) rfl (fun ls hl => ?_)
          refine z_iinc cx (j := 4) (z := ((j + 1 : Nat) : Int)) (lv' := [(6, .int (iI ((j + 1 : Nat) : Int))), (5, .int (iI ((x + 0 : Nat) : Int))), (0, .long u), (2, .long v), (4, .int (iI ((bn u 8 : Nat) : Int)))]) dX4_name_84 hl rfl (by omega) (by decide) rfl (fun ls hl => ?_)
          refine lv_goto (tgt := 51) hx hb dX4_name_87 (by decide) ?_
          exact ih_lp2 (x + 0) (j + 1) (by omega) (by omega) e3.symm _ _ _ _ _ hS  (by omega) (by omega) (lv_sub hl [2, 3, 4, 1, 0] rfl)
        · have e3 : bn v (j + 1) = x + 1 := by rw [bn, if_neg (fun h => c73 ((lg_cmp_eq _ _).mpr h)), hxj]
          refine lv_iconst (v := iI (1)) hx hb dX4_name_76 rfl ?_
          refine lv_goto (tgt := 81) hx hb dX4_name_77 (by decide) ?_
          refine z_iadd cx (z := ((x + 1 : Nat) : Int)) dX4_name_81 (by omega) ?_
          refine lv_istore (lv' := [(5, .int (iI ((x + 1 : Nat) : Int))), (0, .long u), (2, .long v), (4, .int (iI ((bn u 8 : Nat) : Int))), (6, .int (iI ↑j))]) hx hb dX4_name_82 hl (by decide) rfl (fun ls hl => ?_)
          refine z_iinc cx (j := 4) (z := ((j + 1 : Nat) : Int)) (lv' := [(6, .int (iI ((j + 1 : Nat) : Int))), (5, .int (iI ((x + 1 : Nat) : Int))), (0, .long u), (2, .long v), (4, .int (iI ((bn u 8 : Nat) : Int)))]) dX4_name_84 hl rfl (by omega) (by decide) rfl (fun ls hl => ?_)
          refine lv_goto (tgt := 51) hx hb dX4_name_87 (by decide) ?_
          exact ih_lp2 (x + 1) (j + 1) (by omega) (by omega) e3.symm _ _ _ _ _ hS  (by omega) (by omega) (lv_sub hl [2, 3, 4, 1, 0] rfl)
  refine lv_iconst (v := iI (0)) hx hb dX4_name_0 rfl ?_
  refine lv_istore (lv' := [(4, .int (iI 0)), (0, .long u), (2, .long v)]) hx hb dX4_name_1 hl (by decide) rfl (fun ls hl => ?_)
  refine lv_iconst (v := iI (0)) hx hb dX4_name_3 rfl ?_
  refine lv_istore (lv' := [(5, .int (iI 0)), (4, .int (iI 0)), (0, .long u), (2, .long v)]) hx hb dX4_name_4 hl (by decide) rfl (fun ls hl => ?_)
  have lp1 : ∀ (fuel : Nat) (x j : Nat), (8 - j) < fuel → (j ≤ 8) → (x = bn u j) → ∀ (H : Heap) (locs : List Loc) (ls : Array Slot) (k n : Nat), va_S (Pur H0) H0 H locs → (k ≤ 0) → (n ≤ 0) → lv_has ls 8 [(0, .long u), (2, .long v), (4, .int (iI ↑x)), (5, .int (iI ↑j))] → W p l e ⟨0, mc, ms, 0⟩ s m args below meth c H locs k n Q (F0 m 6 ls []) := by
    intro fuel
    induction fuel with
    | zero => intro x j hf9; exact absurd hf9 (Nat.not_lt_zero _)
    | succ fuel ih_lp1 =>
      intro x j hf9 hj hxj H locs ls k n hS  hr1 hr2 hl
      refine lv_iload hx hb dX4_name_6 (lv_at hl 3 rfl) ?_
      refine lv_bipush (v := iI (8)) hx hb dX4_name_8 (by decide) ?_
      refine z_icmp_ge cx (tgt := 45) dX4_name_10 (by decide) (by omega) (fun c10 => ?_) (fun c10 => ?_)
      · have e1 : j = 8 := by omega
        rw [e1] at hxj
        subst hxj
        refine lv_iconst (v := iI (0)) hx hb dX4_name_45 rfl ?_
        refine lv_istore (lv' := [(5, .int (iI 0)), (0, .long u), (2, .long v), (4, .int (iI ((bn u 8 : Nat) : Int)))]) hx hb dX4_name_46 hl (by decide) rfl (fun ls hl => ?_)
        refine lv_iconst (v := iI (0)) hx hb dX4_name_48 rfl ?_
        refine lv_istore (lv' := [(6, .int (iI 0)), (5, .int (iI 0)), (0, .long u), (2, .long v), (4, .int (iI ((bn u 8 : Nat) : Int)))]) hx hb dX4_name_49 hl (by decide) rfl (fun ls hl => ?_)
        exact lp2 _ 0 0 (Nat.lt_succ_self _) (by omega) rfl _ _ _ _ _ hS  (by omega) (by omega) (lv_sub hl [2, 3, 4, 1, 0] rfl)
      · have hb9 := bn_le u j
        refine lv_iload hx hb dX4_name_13 (lv_at hl 2 rfl) ?_
        refine lv_lload_n hx hb dX4_name_15 rfl (lv_at hl 0 rfl) ?_
        refine lv_bipush (v := iI (8)) hx hb dX4_name_16 (by decide) ?_
        refine lv_iload hx hb dX4_name_18 (lv_at hl 3 rfl) ?_
        refine z_imul cx (z := 8 * ↑j) dX4_name_20 (by omega) ?_
        refine lv_lushr (v := (u.toUInt64 >>> ((iI (8 * ↑j)).toInt64.toUInt64 &&& Int64.toUInt64 63)).toInt64) hx hb dX4_name_21 rfl ?_
        refine lv_ldc2 hx hb cx.wn (cx.ts _ q1191) dX4_name_22 ?_
        refine lv_land hx hb dX4_name_25 ?_
        refine lv_lconst (v := 0) hx hb dX4_name_26 (by decide) ?_
        refine W.lcmp hx hb dX4_name_27 ?_
        refine lv_if_eq (tgt := 35) hx hb dX4_name_28 (by decide) (fun c28 => ?_) (fun c28 => ?_)
        · have e3 : bn u (j + 1) = x + 0 := by rw [bn, if_pos ((lg_cmp_eq _ _).mp c28), hxj]
          refine lv_iconst (v := iI (0)) hx hb dX4_name_35 rfl ?_
          refine z_iadd cx (z := ((x + 0 : Nat) : Int)) dX4_name_36 (by omega) ?_
          refine lv_istore (lv' := [(4, .int (iI ((x + 0 : Nat) : Int))), (0, .long u), (2, .long v), (5, .int (iI ↑j))]) hx hb dX4_name_37 hl (by decide) rfl (fun ls hl => ?_)
          refine z_iinc cx (j := 3) (z := ((j + 1 : Nat) : Int)) (lv' := [(5, .int (iI ((j + 1 : Nat) : Int))), (4, .int (iI ((x + 0 : Nat) : Int))), (0, .long u), (2, .long v)]) dX4_name_39 hl rfl (by omega) (by decide) rfl (fun ls hl => ?_)
          refine lv_goto (tgt := 6) hx hb dX4_name_42 (by decide) ?_
          exact ih_lp1 (x + 0) (j + 1) (by omega) (by omega) e3.symm _ _ _ _ _ hS  (by omega) (by omega) (lv_sub hl [2, 3, 1, 0] rfl)
        · have e3 : bn u (j + 1) = x + 1 := by rw [bn, if_neg (fun h => c28 ((lg_cmp_eq _ _).mpr h)), hxj]
          refine lv_iconst (v := iI (1)) hx hb dX4_name_31 rfl ?_
          refine lv_goto (tgt := 36) hx hb dX4_name_32 (by decide) ?_
          refine z_iadd cx (z := ((x + 1 : Nat) : Int)) dX4_name_36 (by omega) ?_
          refine lv_istore (lv' := [(4, .int (iI ((x + 1 : Nat) : Int))), (0, .long u), (2, .long v), (5, .int (iI ↑j))]) hx hb dX4_name_37 hl (by decide) rfl (fun ls hl => ?_)
          refine z_iinc cx (j := 3) (z := ((j + 1 : Nat) : Int)) (lv' := [(5, .int (iI ((j + 1 : Nat) : Int))), (4, .int (iI ((x + 1 : Nat) : Int))), (0, .long u), (2, .long v)]) dX4_name_39 hl rfl (by omega) (by decide) rfl (fun ls hl => ?_)
          refine lv_goto (tgt := 6) hx hb dX4_name_42 (by decide) ?_
          exact ih_lp1 (x + 1) (j + 1) (by omega) (by omega) e3.symm _ _ _ _ _ hS  (by omega) (by omega) (lv_sub hl [2, 3, 1, 0] rfl)
  exact lp1 _ 0 0 (Nat.lt_succ_self _) (by omega) rfl _ _ _ _ _ hS  (by omega) (by omega) (lv_sub hl [2, 3, 1, 0] rfl)
