/-! ===== the model: its start, typing, reading ===== -/
set_option maxHeartbeats 4000000 in
set_option maxRecDepth 100000 in
theorem m_X5_init (G : zE) (l : Launch) (H0 : Heap) (a : Nat) (N : Nat) (h0 : Ob G H0 a 6 [.null, .int (iI 0), .null, .null, .null]) (hN : N ≤ 300) {mc ms : Nat} (hmc : 4 ≤ mc) (hms : 300 + N ≤ ms) : zV G l yX5_init (ws_ yX5_init cX5_init 2 (none)) 1 20 mc ms [.ref a, .int (iI ↑N)] H0 (fun H1 => ∃ c b k e : Nat, (H0.size ≤ c ∧ H0.size ≤ b ∧ H0.size ≤ k ∧ H0.size ≤ e) ∧ (b ≠ k ∧ b ≠ e ∧ k ≠ e ∧ c ≠ b ∧ c ≠ k ∧ c ≠ e) ∧ Ob G H1 a 6 [.ref c, .int (iI 0), .ref b, .ref k, .ref e] ∧ Ai G H1 c 101 (List.replicate N 0) ∧ Ai G H1 b 101 (List.replicate 100 0) ∧ Ai G H1 k 101 (List.replicate 100 0) ∧ Ai G H1 e 101 (List.replicate 100 0)) (fun q => H0.size ≤ q ∨ q = a) := by
  refine zV.start (cc := cX5_init) (by decide) (Nat.le_of_ble_eq_true rfl) ?_
  intro p e s m args below meth c Q cx hQ hmn ls hl
  have hx := cx.1
  have hb := cx.2.1
  have hS : va_S (fun q => H0.size ≤ q ∨ q = a) H0 H0 [] := va_S.rf
  have hl : lv_has ls 2 [(0, .ref a), (1, .int (iI ↑N))] := hl
  have ha9 := h0.lt
  refine lv_aload_n hx hb dX5_init_0 rfl (lv_at hl 0 rfl) ?_
  refine z_obj cx q1131 q70 q71 hl (Nat.le_of_ble_eq_true rfl) (by decide) dX5_init_1 ?_
  refine lv_aload_n hx hb dX5_init_4 rfl (lv_at hl 0 rfl) ?_
  refine lv_bipush (v := iI (100)) hx hb dX5_init_5 (by decide) ?_
  refine z_newI cx hS q1152 (100) (by omega) (by omega) dX5_init_7 (fun b1 H hb1 hgb1 Ab1 hz9 hE9 hS => ?_)
  have h0 := h0.ext hE9
  have nb : b1 ≠ a := by omega
  refine z_putF cx hmn (k0 := 2) (vs' := [.null, .int (iI 0), .ref b1, .null, .null]) h0 (Or.inr rfl) hS rfl in_X5 tyX5_ok nmX5 (by decide) q1135 rfl rfl rfl rfl (Nat.le_of_ble_eq_true rfl) ⟨rfl, rfl⟩ dX5_init_9 (fun H locs h0 hz9 hq9 hS => ?_)
  have Ab1 := Ab1.kept (hq9 _ nb)
  refine lv_aload_n hx hb dX5_init_12 rfl (lv_at hl 0 rfl) ?_
  refine lv_bipush (v := iI (100)) hx hb dX5_init_13 (by decide) ?_
  refine z_newI cx hS q1152 (100) (by omega) (by omega) dX5_init_15 (fun kk H hkk hgkk Akk hz9 hE9 hS => ?_)
  have h0 := h0.ext hE9
  have Ab1 := Ab1.ext hE9
  have nk : kk ≠ a := by omega
  have nk2 : b1 ≠ kk := by have := Ab1.lt; omega
  refine z_putF cx hmn (k0 := 3) (vs' := [.null, .int (iI 0), .ref b1, .ref kk, .null]) h0 (Or.inr rfl) hS rfl in_X5 tyX5_ok nmX5 (by decide) q1137 rfl rfl rfl rfl (Nat.le_of_ble_eq_true rfl) ⟨rfl, rfl⟩ dX5_init_17 (fun H locs h0 hz9 hq9 hS => ?_)
  have Ab1 := Ab1.kept (hq9 _ nb)
  have Akk := Akk.kept (hq9 _ nk)
  refine lv_aload_n hx hb dX5_init_20 rfl (lv_at hl 0 rfl) ?_
  refine lv_bipush (v := iI (100)) hx hb dX5_init_21 (by decide) ?_
  refine z_newI cx hS q1152 (100) (by omega) (by omega) dX5_init_23 (fun ee H hee hgee Aee hz9 hE9 hS => ?_)
  have h0 := h0.ext hE9
  have Ab1 := Ab1.ext hE9
  have Akk := Akk.ext hE9
  have ne1 : ee ≠ a := by omega
  refine z_putF cx hmn (k0 := 4) (vs' := [.null, .int (iI 0), .ref b1, .ref kk, .ref ee]) h0 (Or.inr rfl) hS rfl in_X5 tyX5_ok nmX5 (by decide) q1139 rfl rfl rfl rfl (Nat.le_of_ble_eq_true rfl) ⟨rfl, rfl⟩ dX5_init_25 (fun H locs h0 hz9 hq9 hS => ?_)
  have Ab1 := Ab1.kept (hq9 _ nb)
  have Akk := Akk.kept (hq9 _ nk)
  have Aee := Aee.kept (hq9 _ ne1)
  refine lv_aload_n hx hb dX5_init_28 rfl (lv_at hl 0 rfl) ?_
  refine lv_iload_n hx hb dX5_init_29 rfl (lv_at hl 1 rfl) ?_
  refine z_newI cx hS q1152 (N) (by omega) (by omega) dX5_init_30 (fun ch H hch hgch Ach hz9 hE9 hS => ?_)
  have h0 := h0.ext hE9
  have Ab1 := Ab1.ext hE9
  have Akk := Akk.ext hE9
  have Aee := Aee.ext hE9
  have nc1 : ch ≠ a := by omega
  refine z_putF cx hmn (k0 := 0) (vs' := [.ref ch, .int (iI 0), .ref b1, .ref kk, .ref ee]) h0 (Or.inr rfl) hS rfl in_X5 tyX5_ok nmX5 (by decide) q1132 rfl rfl rfl rfl (Nat.le_of_ble_eq_true rfl) ⟨rfl, rfl⟩ dX5_init_32 (fun H locs h0 hz9 hq9 hS => ?_)
  have Ab1 := Ab1.kept (hq9 _ nb)
  have Akk := Akk.kept (hq9 _ nk)
  have Aee := Aee.kept (hq9 _ ne1)
  have Ach := Ach.kept (hq9 _ nc1)
  exact z_vret cx hQ rfl (⟨ch, b1, kk, ee, ⟨hgch, hgb1, hgkk, hgee⟩, ⟨by omega, by omega, by omega, by omega, by omega, by omega⟩, h0, Ach, Ab1, Akk, Aee⟩) hS (by omega) dX5_init_35
set_option maxHeartbeats 4000000 in
set_option maxRecDepth 100000 in
theorem m_X8_init (G : zE) (l : Launch) (H0 : Heap) (a : Nat) (h0 : Ob G H0 a 7 [.int (iI 0), .int (iI 0), .int (iI 0), .int (iI 0), .int (iI 0), .int (iI 0), .int (iI 0), .int (iI 0), .null, .null, .null, .long 0]) {mc ms : Nat}  : zV G l yX8_init (ws_ yX8_init cX8_init 1 (none)) 1 20 mc ms [.ref a] H0 (fun H1 => Ob G H1 a 7 [.int (iI 0), .int (iI (-2)), .int (iI (-2)), .int (iI 0), .int (iI 0), .int (iI 0), .int (iI 0), .int (iI 0), .null, .null, .null, .long 0]) (fun q => H0.size ≤ q ∨ q = a) := by
  refine zV.start (cc := cX8_init) (by decide) (Nat.le_of_ble_eq_true rfl) ?_
  intro p e s m args below meth c Q cx hQ hmn ls hl
  have hx := cx.1
  have hb := cx.2.1
  have hS : va_S (fun q => H0.size ≤ q ∨ q = a) H0 H0 [] := va_S.rf
  have hl : lv_has ls 1 [(0, .ref a)] := hl
  refine lv_aload_n hx hb dX8_init_0 rfl (lv_at hl 0 rfl) ?_
  refine z_obj cx q1294 q70 q71 hl (Nat.le_of_ble_eq_true rfl) (by decide) dX8_init_1 ?_
  refine lv_aload_n hx hb dX8_init_4 rfl (lv_at hl 0 rfl) ?_
  refine lv_bipush (v := iI (-2)) hx hb dX8_init_5 (by decide) ?_
  refine z_put cx (k0 := 1) (vs' := [.int (iI 0), .int (iI (-2)), .int (iI 0), .int (iI 0), .int (iI 0), .int (iI 0), .int (iI 0), .int (iI 0), .null, .null, .null, .long 0]) h0 (Or.inr rfl) hS rfl in_X8 tyX8_ok nmX8 (by decide) q1296 rfl rfl  rfl (Nat.le_of_ble_eq_true rfl) ⟨rfl, rfl⟩ dX8_init_7 (fun H locs h0 hz9 hq9 hS => ?_)
  refine lv_aload_n hx hb dX8_init_10 rfl (lv_at hl 0 rfl) ?_
  refine lv_bipush (v := iI (-2)) hx hb dX8_init_11 (by decide) ?_
  refine z_put cx (k0 := 2) (vs' := [.int (iI 0), .int (iI (-2)), .int (iI (-2)), .int (iI 0), .int (iI 0), .int (iI 0), .int (iI 0), .int (iI 0), .null, .null, .null, .long 0]) h0 (Or.inr rfl) hS rfl in_X8 tyX8_ok nmX8 (by decide) q1298 rfl rfl  rfl (Nat.le_of_ble_eq_true rfl) ⟨rfl, rfl⟩ dX8_init_13 (fun H locs h0 hz9 hq9 hS => ?_)
  exact z_vret cx hQ rfl h0 hS (by omega) dX8_init_16
set_option maxHeartbeats 4000000 in
set_option maxRecDepth 100000 in
theorem m_X4_read (G : zE) (l : Launch) (H0 : Heap) (x tp : Nat) (tape pad : List Int) (u2 u3 u4 u5 u6 u7 u8 : Value) (hx9 : Ob G H0 x 5 [.ref tp, .int (iI (tape.length : Int)), u2, u3, u4, u5, u6, u7, u8]) (htp : Ai G H0 tp 101 (tape ++ pad)) (hct : chs tape) (hnt : tape.length ≤ 300) {mc ms : Nat} (hmc : 5 ≤ mc) (hms : 605 ≤ ms) : zR G l yX4_read (ws_ yX4_read cX4_read 6 (some (FieldType.object "VaryStoreModel$Text"))) 3 63 mc ms [.ref x] H0 (fun r H1 => Ob G H1 x 5 [.ref tp, .int (iI 0), .int (iI (rdT tape).1), u3, u4, u5, u6, u7, u8] ∧ ((rdT tape).1 = -1 ∧ (∃ t : Nat, r = .ref t ∧ Tx G (Pur H0) H1 t tape (rdT tape).2) ∨ (rdT tape).1 ≠ -1 ∧ r = .null)) (fun q => H0.size ≤ q ∨ q = x) := by
  refine zR.start (cc := cX4_read) (by decide) (Nat.le_of_ble_eq_true rfl) ?_
  intro p e s m args below meth c Q cx hQ hmn ls hl
  have hx := cx.1
  have hb := cx.2.1
  have hS : va_S (fun q => H0.size ≤ q ∨ q = x) H0 H0 [] := va_S.rf
  have hl : lv_has ls 6 [(0, .ref x)] := hl
  have hxt : tp ≠ x := htp.cl.ne hx9.cl cx.kk rfl
  have hlx := hx9.lt
  have hlt := htp.lt
  refine lv_aload_n hx hb dX4_read_0 rfl (lv_at hl 0 rfl) ?_
  refine z_get cx (k0 := 1) hx9 rfl in_X4 (by decide) q1156 rfl rfl dX4_read_1 ?_
  refine lv_istore_n (lv' := [(1, .int (iI ↑tape.length)), (0, .ref x)]) hx hb dX4_read_4 rfl hl (by decide) rfl (fun ls hl => ?_)
  refine lv_aload_n hx hb dX4_read_5 rfl (lv_at hl 1 rfl) ?_
  refine lv_iconst (v := iI (0)) hx hb dX4_read_6 rfl ?_
  refine z_put cx (k0 := 1) (vs' := [.ref tp, .int (iI 0), u2, u3, u4, u5, u6, u7, u8]) hx9 (Or.inr rfl) hS rfl in_X4 tyX4_ok nmX4 (by decide) q1156 rfl rfl  rfl (Nat.le_of_ble_eq_true rfl) ⟨rfl, rfl⟩ dX4_read_7 (fun H locs hx9 hz9 hq9 hS => ?_)
  have htp := htp.kept (hq9 _ hxt)
  refine lv_aload_n hx hb dX4_read_10 rfl (lv_at hl 1 rfl) ?_
  refine lv_iconst (v := iI (-1)) hx hb dX4_read_11 rfl ?_
  refine z_put cx (k0 := 2) (vs' := [.ref tp, .int (iI 0), .int (iI (-1)), u3, u4, u5, u6, u7, u8]) hx9 (Or.inr rfl) hS rfl in_X4 tyX4_ok nmX4 (by decide) q1157 rfl rfl  rfl (Nat.le_of_ble_eq_true rfl) ⟨rfl, rfl⟩ dX4_read_12 (fun H locs hx9 hz9 hq9 hS => ?_)
  have htp := htp.kept (hq9 _ hxt)
  refine z_new cx (ci := 6) (vs := [.null, .int (iI 0), .null, .null, .null]) hS rfl in_X5 tyX5_ok q1126 q1127 q58 (zdefX5) (by omega) dX4_read_15 (fun t H ht hgt At hz9 hE9 hS => ?_)
  have hx9 := hx9.ext hE9
  have htp := htp.ext hE9
  refine lv_dup hx hb dX4_read_18 rfl ?_
  refine lv_iload_n hx hb dX4_read_19 rfl (lv_at hl 0 rfl) ?_
  have ht0 := hgt
  have hts : x < t ∧ tp < t := by have := hS.1; omega
  refine z_callI cx (j := 1) (m_X5_init G l _ t tape.length At hnt (mc := 4) (ms := 300 + tape.length) (Nat.le_refl _) (Nat.le_refl _)) (lw_meth q1130) q58 q1128 q1129 rfl (by decide +kernel) rfl (rest := [.ref t]) rfl hl (Nat.le_of_ble_eq_true rfl) (by decide) (by omega) dX4_read_20 hS (fun q h => by rcases h with h | h; exact Or.inl (Nat.le_trans hS.1 h); exact Or.inl (by rw [h]; exact ht0)) (fun H locs hp20 hz9 hk9 hS => ?_)
  obtain ⟨c0, b0, k0, e0, ⟨g1, g2, g3, g4⟩, ⟨n1, n2, n3, n4, n5, n6⟩, At, Ac, Ab, Ak, Ae⟩ := hp20
  have hx9 := hx9.kept (hk9 x hx9.lt (by rintro (h | h); exact absurd hx9.lt (Nat.not_lt.mpr h); omega))
  have htp := htp.kept (hk9 tp htp.lt (by rintro (h | h); exact absurd htp.lt (Nat.not_lt.mpr h); omega))
  have htl := At.lt
  have hS8 := hS.1
  have gt0 : H0.size ≤ c0 ∧ H0.size ≤ b0 ∧ H0.size ≤ k0 ∧ H0.size ≤ e0 := by omega
  have tne : t ≠ c0 ∧ t ≠ b0 ∧ t ≠ k0 ∧ t ≠ e0 := by omega
  have xne : x ≠ c0 ∧ x ≠ b0 ∧ x ≠ k0 ∧ x ≠ e0 ∧ x ≠ t := by omega
  have pne : tp ≠ c0 := by omega
  clear g1 g2 g3 g4
  have lp2 : ∀ (fuel : Nat) (d a : Nat) (acc : Lns) (bs ks es : List Int), (tape.length - a) < fuel → (a ≤ tape.length ∧ 3 * acc.length ≤ a ∧ tape.length - a < d) → (rdT tape = prs tape d a acc) → (bs.length = 100 ∧ ks.length = 100 ∧ es.length = 100) → (∀ (i : Nat) (q : Nat × Nat × Nat), acc[i]? = some q → bs[i]? = some (q.1 : Int) ∧ ks[i]? = some (q.2.1 : Int) ∧ es[i]? = some (q.2.2 : Int) ∧ lnOk tape q) → ∀ (H : Heap) (locs : List Loc) (ls : Array Slot) (k n : Nat), va_S (fun q => H0.size ≤ q ∨ q = x) H0 H locs → Ob G H x 5 [.ref tp, .int (iI 0), .int (iI (-1)), u3, u4, u5, u6, u7, u8] → Ob G H t 6 [.ref c0, .int (iI ↑acc.length), .ref b0, .ref k0, .ref e0] → Ai G H c0 101 tape → Ai G H b0 101 bs → Ai G H k0 101 ks → Ai G H e0 101 es → (k ≤ mc) → (n ≤ ms) → lv_has ls 6 [(0, .ref x), (1, .int (iI ↑tape.length)), (2, .ref t), (3, .int (iI ↑a))] → W p l e ⟨3, mc, ms, 63⟩ s m args below meth c H locs k n Q (F0 m 51 ls []) := by
    intro fuel
    induction fuel with
    | zero => intro d a acc bs ks es hf9; exact absurd hf9 (Nat.not_lt_zero _)
    | succ fuel ih_lp2 =>
      intro d a acc bs ks es hf9 ha hrd hle hcon H locs ls k n hS hx9 At Ac Ab Ak Ae hr1 hr2 hl
      obtain ⟨d, rfl⟩ : ∃ d9, d = d9 + 1 := ⟨d - 1, by omega⟩
      rw [prs] at hrd
      refine lv_iload_n hx hb dX4_read_51 rfl (lv_at hl 3 rfl) ?_
      refine lv_iload_n hx hb dX4_read_52 rfl (lv_at hl 1 rfl) ?_
      refine z_icmp_ge cx (tgt := 194) dX4_read_53 (by decide) (by omega) (fun c53 => ?_) (fun c53 => ?_)
      · rw [if_pos (by omega)] at hrd
        refine lv_aload_n hx hb dX4_read_194 rfl (lv_at hl 2 rfl) ?_
        exact z_aret cx hQ rfl (Or.inl ⟨_, rfl⟩) (by rw [hrd]; exact ⟨hx9, Or.inl ⟨rfl, t, rfl, ht0, c0, b0, k0, e0, bs, ks, es, At, gt0, Ac, Ab, Ak, Ae, ⟨hle.1, hle.2.1, hle.2.2, by show acc.length ≤ 100; omega⟩, hct, hnt, hcon⟩⟩) hS (by omega) dX4_read_195
      · rw [if_neg (by omega)] at hrd
        have l137 : ∀ (fuel : Nat) , 0 < fuel → (okl tape a = false) → ∀ (H : Heap) (locs : List Loc) (ls : Array Slot) (k n : Nat), va_S (fun q => H0.size ≤ q ∨ q = x) H0 H locs → Ob G H x 5 [.ref tp, .int (iI 0), .int (iI (-1)), u3, u4, u5, u6, u7, u8] → (k ≤ mc) → (n ≤ ms) → lv_has ls 6 [(0, .ref x), (3, .int (iI ↑a))] → W p l e ⟨3, mc, ms, 63⟩ s m args below meth c H locs k n Q (F0 m 137 ls []) := by
          intro fuel
          induction fuel with
          | zero => intro  hf9; exact absurd hf9 (Nat.not_lt_zero _)
          | succ fuel ih_l137 =>
            intro  hf9 hno H locs ls k n hS hx9 hr1 hr2 hl
            rw [if_neg (by rw [hno]; decide)] at hrd
            refine lv_aload_n hx hb dX4_read_137 rfl (lv_at hl 0 rfl) ?_
            refine lv_iload_n hx hb dX4_read_138 rfl (lv_at hl 1 rfl) ?_
            refine z_put cx (k0 := 2) (vs' := [.ref tp, .int (iI 0), .int (iI ↑a), u3, u4, u5, u6, u7, u8]) hx9 (Or.inr rfl) hS rfl in_X4 tyX4_ok nmX4 (by decide) q1157 rfl rfl  rfl (Nat.le_of_ble_eq_true rfl) ⟨rfl, rfl⟩ dX4_read_139 (fun H locs hx9 hz9 hq9 hS => ?_)
            refine lv_null hx hb dX4_read_142 ?_
            exact z_nret cx hQ rfl (Or.inl ⟨_, rfl⟩) (by rw [hrd]; exact ⟨hx9, Or.inr ⟨by show (a : Int) ≠ -1; omega, rfl⟩⟩) hS (by omega) dX4_read_143
        have l111 : ∀ (fuel : Nat) (i j : Nat), 0 < fuel → (i = nxt tape 10 a tape.length) → (j = nxt tape 58 a i) → ∀ (H : Heap) (locs : List Loc) (ls : Array Slot) (k n : Nat), va_S (fun q => H0.size ≤ q ∨ q = x) H0 H locs → Ob G H x 5 [.ref tp, .int (iI 0), .int (iI (-1)), u3, u4, u5, u6, u7, u8] → Ob G H t 6 [.ref c0, .int (iI ↑acc.length), .ref b0, .ref k0, .ref e0] → Ai G H c0 101 tape → Ai G H b0 101 bs → Ai G H k0 101 ks → Ai G H e0 101 es → (k ≤ mc) → (n ≤ ms) → lv_has ls 6 [(0, .ref x), (1, .int (iI ↑tape.length)), (2, .ref t), (3, .int (iI ↑a)), (4, .int (iI ↑i)), (5, .int (iI ↑j))] → W p l e ⟨3, mc, ms, 63⟩ s m args below meth c H locs k n Q (F0 m 111 ls []) := by
          intro fuel
          induction fuel with
          | zero => intro i j hf9; exact absurd hf9 (Nat.not_lt_zero _)
          | succ fuel ih_l111 =>
            intro i j hf9 hi hj H locs ls k n hS hx9 At Ac Ab Ak Ae hr1 hr2 hl
            have hi1 := nxt_le (cs := tape) (x := 10) (show a ≤ tape.length by omega)
            have hj1 := nxt_le (cs := tape) (x := 58) (show a ≤ i by omega)
            rw [← hi] at hi1
            rw [← hj] at hj1
            have hok9 : okl tape a = (decide (i < tape.length ∧ j < i) && isNm (sl tape a j)) := by rw [okl, ← hi, ← hj]
            refine lv_iload hx hb dX4_read_111 (lv_at hl 4 rfl) ?_
            refine lv_iload_n hx hb dX4_read_113 rfl (lv_at hl 1 rfl) ?_
            refine z_icmp_eq cx (tgt := 137) dX4_read_114 (by decide) (by omega) (fun c114 => ?_) (fun c114 => ?_)
            · exact l137 _  (Nat.lt_succ_self _) (by rw [hok9, decide_eq_false (by omega)]; rfl) _ _ _ _ _ hS hx9 (by omega) (by omega) (lv_sub hl [0, 3] rfl)
            · refine lv_iload hx hb dX4_read_117 (lv_at hl 5 rfl) ?_
              refine lv_iload hx hb dX4_read_119 (lv_at hl 4 rfl) ?_
              refine z_icmp_eq cx (tgt := 137) dX4_read_121 (by decide) (by omega) (fun c121 => ?_) (fun c121 => ?_)
              · exact l137 _  (Nat.lt_succ_self _) (by rw [hok9, decide_eq_false (by omega)]; rfl) _ _ _ _ _ hS hx9 (by omega) (by omega) (lv_sub hl [0, 3] rfl)
              · refine lv_aload_n hx hb dX4_read_124 rfl (lv_at hl 2 rfl) ?_
                refine z_get cx (k0 := 0) At rfl in_X5 (by decide) q1133 rfl rfl dX4_read_125 ?_
                refine lv_iload_n hx hb dX4_read_128 rfl (lv_at hl 3 rfl) ?_
                refine lv_iload hx hb dX4_read_129 (lv_at hl 5 rfl) ?_
                refine z_callS cx (j := 3) (m_X4_isName G l _ c0 tape a j Ac hct (by omega) (mc := 0) (ms := 0)) (lw_S q1200 q1201 q57 q1202) (by decide +kernel) rfl (rest := []) rfl hl (Nat.le_of_ble_eq_true rfl) (by decide) (by omega) dX4_read_131 hS (fun q h => Or.inl (Nat.le_trans hS.1 h)) (fun v131 H locs hp131 hz9 hk9 hS => ?_)
                have hE9 := Ext.of hz9 hk9 (fun q h => h)
                have hx9 := hx9.ext hE9
                have At := At.ext hE9
                have Ac := Ac.ext hE9
                have Ab := Ab.ext hE9
                have Ak := Ak.ext hE9
                have Ae := Ae.ext hE9
                have hb131 := b2i_rg (isNm (sl tape a j))
                subst hp131
                refine z_if_ne cx (tgt := 144) dX4_read_134 (by decide) (by omega) (fun c134 => ?_) (fun c134 => ?_)
                · have hyes : okl tape a = true := by
                    rw [hok9, decide_eq_true (by omega)]
                    cases h : isNm (sl tape a j) with
                    | true => rfl
                    | false => rw [h] at c134; exact absurd rfl c134
                  have hln := okl_ok hyes (by omega)
                  rw [if_pos hyes, ← hi, ← hj] at hrd
                  rw [← hi, ← hj] at hln
                  have hln3 : a < j ∧ j < i ∧ i ≤ tape.length := hln
                  have hin : i < tape.length := by omega
                  refine lv_aload_n hx hb dX4_read_144 rfl (lv_at hl 2 rfl) ?_
                  refine z_get cx (k0 := 2) At rfl in_X5 (by decide) q1136 rfl rfl dX4_read_145 ?_
                  refine lv_aload_n hx hb dX4_read_148 rfl (lv_at hl 2 rfl) ?_
                  refine z_get cx (k0 := 1) At rfl in_X5 (by decide) q1134 rfl rfl dX4_read_149 ?_
                  refine lv_iload_n hx hb dX4_read_152 rfl (lv_at hl 3 rfl) ?_
                  refine z_iast cx Ab (Or.inl gt0.2.1) hS (acc.length) (by omega) dX4_read_153 (fun H locs Ab hz9 hq9 hS => ?_)
                  have hx9 := hx9.kept (hq9 _ xne.2.1)
                  have At := At.kept (hq9 _ tne.2.1)
                  have Ac := Ac.kept (hq9 _ n4)
                  have Ak := Ak.kept (hq9 _ (Ne.symm n1))
                  have Ae := Ae.kept (hq9 _ (Ne.symm n2))
                  refine lv_aload_n hx hb dX4_read_154 rfl (lv_at hl 2 rfl) ?_
                  refine z_get cx (k0 := 3) At rfl in_X5 (by decide) q1138 rfl rfl dX4_read_155 ?_
                  refine lv_aload_n hx hb dX4_read_158 rfl (lv_at hl 2 rfl) ?_
                  refine z_get cx (k0 := 1) At rfl in_X5 (by decide) q1134 rfl rfl dX4_read_159 ?_
                  refine lv_iload hx hb dX4_read_162 (lv_at hl 5 rfl) ?_
                  refine z_iast cx Ak (Or.inl gt0.2.2.1) hS (acc.length) (by omega) dX4_read_164 (fun H locs Ak hz9 hq9 hS => ?_)
                  have hx9 := hx9.kept (hq9 _ xne.2.2.1)
                  have At := At.kept (hq9 _ tne.2.2.1)
                  have Ac := Ac.kept (hq9 _ n5)
                  have Ab := Ab.kept (hq9 _ n1)
                  have Ae := Ae.kept (hq9 _ (Ne.symm n3))
                  refine lv_aload_n hx hb dX4_read_165 rfl (lv_at hl 2 rfl) ?_
                  refine z_get cx (k0 := 4) At rfl in_X5 (by decide) q1140 rfl rfl dX4_read_166 ?_
                  refine lv_aload_n hx hb dX4_read_169 rfl (lv_at hl 2 rfl) ?_
                  refine z_get cx (k0 := 1) At rfl in_X5 (by decide) q1134 rfl rfl dX4_read_170 ?_
                  refine lv_iload hx hb dX4_read_173 (lv_at hl 4 rfl) ?_
                  refine z_iast cx Ae (Or.inl gt0.2.2.2) hS (acc.length) (by omega) dX4_read_175 (fun H locs Ae hz9 hq9 hS => ?_)
                  have hx9 := hx9.kept (hq9 _ xne.2.2.2.1)
                  have At := At.kept (hq9 _ tne.2.2.2)
                  have Ac := Ac.kept (hq9 _ n6)
                  have Ab := Ab.kept (hq9 _ n2)
                  have Ak := Ak.kept (hq9 _ n3)
                  refine lv_aload_n hx hb dX4_read_176 rfl (lv_at hl 2 rfl) ?_
                  refine lv_dup hx hb dX4_read_177 rfl ?_
                  refine z_get cx (k0 := 1) At rfl in_X5 (by decide) q1134 rfl rfl dX4_read_178 ?_
                  refine lv_iconst (v := iI (1)) hx hb dX4_read_181 rfl ?_
                  refine z_iadd cx (z := ((acc.length + 1 : Nat) : Int)) dX4_read_182 (by omega) ?_
                  refine z_put cx (k0 := 1) (vs' := [.ref c0, .int (iI ((acc.length + 1 : Nat) : Int)), .ref b0, .ref k0, .ref e0]) At (Or.inl ht0) hS rfl in_X5 tyX5_ok nmX5 (by decide) q1134 rfl rfl  rfl (Nat.le_of_ble_eq_true rfl) ⟨rfl, rfl⟩ dX4_read_183 (fun H locs At hz9 hq9 hS => ?_)
                  have hx9 := hx9.kept (hq9 _ xne.2.2.2.2)
                  have Ac := Ac.kept (hq9 _ (Ne.symm tne.1))
                  have Ab := Ab.kept (hq9 _ (Ne.symm tne.2.1))
                  have Ak := Ak.kept (hq9 _ (Ne.symm tne.2.2.1))
                  have Ae := Ae.kept (hq9 _ (Ne.symm tne.2.2.2))
                  refine lv_iload hx hb dX4_read_186 (lv_at hl 4 rfl) ?_
                  refine lv_iconst (v := iI (1)) hx hb dX4_read_188 rfl ?_
                  refine z_iadd cx (z := ((i + 1 : Nat) : Int)) dX4_read_189 (by omega) ?_
                  refine lv_istore_n (lv' := [(3, .int (iI ((i + 1 : Nat) : Int))), (0, .ref x), (1, .int (iI ↑tape.length)), (2, .ref t), (4, .int (iI ↑i)), (5, .int (iI ↑j))]) hx hb dX4_read_190 rfl hl (by decide) rfl (fun ls hl => ?_)
                  refine lv_goto (tgt := 51) hx hb dX4_read_191 (by decide) ?_
                  exact ih_lp2 d (i + 1) (acc ++ [(a, j, i)]) (bs.set acc.length ↑a) (ks.set acc.length ↑j) (es.set acc.length ↑i) (by omega) (by rw [List.length_append, List.length_singleton]; omega) hrd ⟨by rw [List.length_set]; exact hle.1, by rw [List.length_set]; exact hle.2.1, by rw [List.length_set]; exact hle.2.2⟩ (fun u q hq => ⟨con_snoc (f := fun q => q.1) (fun u q h => (hcon u q h).1) (by omega) (a, j, i) u q hq, con_snoc (f := fun q => q.2.1) (fun u q h => (hcon u q h).2.1) (by omega) (a, j, i) u q hq, con_snoc (f := fun q => q.2.2) (fun u q h => (hcon u q h).2.2.1) (by omega) (a, j, i) u q hq, ok_snoc (fun u q h => (hcon u q h).2.2.2) hln u q hq⟩) _ _ _ _ _ hS hx9 (by rw [List.length_append]; exact At) Ac Ab Ak Ae (by omega) (by omega) (lv_sub hl [1, 2, 3, 0] rfl)
                · exact l137 _  (Nat.lt_succ_self _) (by rw [hok9, b2i_1.mp c134, Bool.and_false]) _ _ _ _ _ hS hx9 (by omega) (by omega) (lv_sub hl [0, 3] rfl)
        have l83 : ∀ (fuel : Nat) (i : Nat), 0 < fuel → (i = nxt tape 10 a tape.length) → ∀ (H : Heap) (locs : List Loc) (ls : Array Slot) (k n : Nat), va_S (fun q => H0.size ≤ q ∨ q = x) H0 H locs → Ob G H x 5 [.ref tp, .int (iI 0), .int (iI (-1)), u3, u4, u5, u6, u7, u8] → Ob G H t 6 [.ref c0, .int (iI ↑acc.length), .ref b0, .ref k0, .ref e0] → Ai G H c0 101 tape → Ai G H b0 101 bs → Ai G H k0 101 ks → Ai G H e0 101 es → (k ≤ mc) → (n ≤ ms) → lv_has ls 6 [(0, .ref x), (1, .int (iI ↑tape.length)), (2, .ref t), (3, .int (iI ↑a)), (4, .int (iI ↑i))] → W p l e ⟨3, mc, ms, 63⟩ s m args below meth c H locs k n Q (F0 m 83 ls []) := by
          intro fuel
          induction fuel with
          | zero => intro i hf9; exact absurd hf9 (Nat.not_lt_zero _)
          | succ fuel ih_l83 =>
            intro i hf9 hi H locs ls k n hS hx9 At Ac Ab Ak Ae hr1 hr2 hl
            have hi1 := nxt_le (cs := tape) (x := 10) (show a ≤ tape.length by omega)
            rw [← hi] at hi1
            refine lv_iload_n hx hb dX4_read_83 rfl (lv_at hl 3 rfl) ?_
            refine lv_istore (lv' := [(5, .int (iI ↑a)), (0, .ref x), (1, .int (iI ↑tape.length)), (2, .ref t), (3, .int (iI ↑a)), (4, .int (iI ↑i))]) hx hb dX4_read_84 hl (by decide) rfl (fun ls hl => ?_)
            have l86 : ∀ (fuel : Nat) (j : Nat), (i - j) < fuel → (a ≤ j ∧ j ≤ i) → (∀ c ∈ sl tape a j, c ≠ 58) → ∀ (H : Heap) (locs : List Loc) (ls : Array Slot) (k n : Nat), va_S (fun q => H0.size ≤ q ∨ q = x) H0 H locs → Ob G H x 5 [.ref tp, .int (iI 0), .int (iI (-1)), u3, u4, u5, u6, u7, u8] → Ob G H t 6 [.ref c0, .int (iI ↑acc.length), .ref b0, .ref k0, .ref e0] → Ai G H c0 101 tape → Ai G H b0 101 bs → Ai G H k0 101 ks → Ai G H e0 101 es → (k ≤ mc) → (n ≤ ms) → lv_has ls 6 [(0, .ref x), (1, .int (iI ↑tape.length)), (2, .ref t), (3, .int (iI ↑a)), (4, .int (iI ↑i)), (5, .int (iI ↑j))] → W p l e ⟨3, mc, ms, 63⟩ s m args below meth c H locs k n Q (F0 m 86 ls []) := by
              intro fuel
              induction fuel with
              | zero => intro j hf9; exact absurd hf9 (Nat.not_lt_zero _)
              | succ fuel ih_l86 =>
                intro j hf9 hj hne H locs ls k n hS hx9 At Ac Ab Ak Ae hr1 hr2 hl
                refine lv_iload hx hb dX4_read_86 (lv_at hl 5 rfl) ?_
                refine lv_iload hx hb dX4_read_88 (lv_at hl 4 rfl) ?_
                refine z_icmp_ge cx (tgt := 111) dX4_read_90 (by decide) (by omega) (fun c90 => ?_) (fun c90 => ?_)
                · exact l111 _ i j (Nat.lt_succ_self _) hi (nxt_of (by omega) hne (Or.inl (by omega))).symm _ _ _ _ _ hS hx9 At Ac Ab Ak Ae (by omega) (by omega) (lv_sub hl [0, 1, 2, 3, 4, 5] rfl)
                · refine lv_aload_n hx hb dX4_read_93 rfl (lv_at hl 2 rfl) ?_
                  refine z_get cx (k0 := 0) At rfl in_X5 (by decide) q1133 rfl rfl dX4_read_94 ?_
                  refine lv_iload hx hb dX4_read_97 (lv_at hl 5 rfl) ?_
                  refine z_iald cx Ac (j) (by omega) dX4_read_99 (fun x99 hx99 => ?_)
                  have bx99 := hct _ (List.mem_of_getElem? hx99)
                  refine lv_bipush (v := iI (58)) hx hb dX4_read_100 (by decide) ?_
                  refine z_icmp_eq cx (tgt := 111) dX4_read_102 (by decide) (by omega) (fun c102 => ?_) (fun c102 => ?_)
                  · rw [c102] at hx99
                    exact l111 _ i j (Nat.lt_succ_self _) hi (nxt_of (by omega) hne (Or.inr hx99)).symm _ _ _ _ _ hS hx9 At Ac Ab Ak Ae (by omega) (by omega) (lv_sub hl [0, 1, 2, 3, 4, 5] rfl)
                  · refine z_iinc cx (j := 5) (z := ((j + 1 : Nat) : Int)) (lv' := [(5, .int (iI ((j + 1 : Nat) : Int))), (0, .ref x), (1, .int (iI ↑tape.length)), (2, .ref t), (3, .int (iI ↑a)), (4, .int (iI ↑i))]) dX4_read_105 hl rfl (by omega) (by decide) rfl (fun ls hl => ?_)
                    refine lv_goto (tgt := 86) hx hb dX4_read_108 (by decide) ?_
                    exact ih_l86 (j + 1) (by omega) (by omega) (by rw [sl_snoc hx99 (by omega)]; intro c h; rcases List.mem_append.mp h with q | q; exact hne c q; rw [List.mem_singleton.mp q]; exact c102) _ _ _ _ _ hS hx9 At Ac Ab Ak Ae (by omega) (by omega) (lv_sub hl [1, 2, 3, 4, 5, 0] rfl)
            exact l86 _ a (Nat.lt_succ_self _) (by omega) (by rw [sl_nil (Nat.le_refl _)]; intro c h; cases h) _ _ _ _ _ hS hx9 At Ac Ab Ak Ae (by omega) (by omega) (lv_sub hl [1, 2, 3, 4, 5, 0] rfl)
        refine lv_iload_n hx hb dX4_read_56 rfl (lv_at hl 3 rfl) ?_
        refine lv_istore (lv' := [(4, .int (iI ↑a)), (0, .ref x), (1, .int (iI ↑tape.length)), (2, .ref t), (3, .int (iI ↑a))]) hx hb dX4_read_57 hl (by decide) rfl (fun ls hl => ?_)
        have l59 : ∀ (fuel : Nat) (i : Nat), (tape.length - i) < fuel → (a ≤ i ∧ i ≤ tape.length) → (∀ c ∈ sl tape a i, c ≠ 10) → ∀ (H : Heap) (locs : List Loc) (ls : Array Slot) (k n : Nat), va_S (fun q => H0.size ≤ q ∨ q = x) H0 H locs → Ob G H x 5 [.ref tp, .int (iI 0), .int (iI (-1)), u3, u4, u5, u6, u7, u8] → Ob G H t 6 [.ref c0, .int (iI ↑acc.length), .ref b0, .ref k0, .ref e0] → Ai G H c0 101 tape → Ai G H b0 101 bs → Ai G H k0 101 ks → Ai G H e0 101 es → (k ≤ mc) → (n ≤ ms) → lv_has ls 6 [(0, .ref x), (1, .int (iI ↑tape.length)), (2, .ref t), (3, .int (iI ↑a)), (4, .int (iI ↑i))] → W p l e ⟨3, mc, ms, 63⟩ s m args below meth c H locs k n Q (F0 m 59 ls []) := by
          intro fuel
          induction fuel with
          | zero => intro i hf9; exact absurd hf9 (Nat.not_lt_zero _)
          | succ fuel ih_l59 =>
            intro i hf9 hi hne H locs ls k n hS hx9 At Ac Ab Ak Ae hr1 hr2 hl
            refine lv_iload hx hb dX4_read_59 (lv_at hl 4 rfl) ?_
            refine lv_iload_n hx hb dX4_read_61 rfl (lv_at hl 1 rfl) ?_
            refine z_icmp_ge cx (tgt := 83) dX4_read_62 (by decide) (by omega) (fun c62 => ?_) (fun c62 => ?_)
            · exact l83 _ i (Nat.lt_succ_self _) (nxt_of (by omega) hne (Or.inl (by omega))).symm _ _ _ _ _ hS hx9 At Ac Ab Ak Ae (by omega) (by omega) (lv_sub hl [0, 1, 2, 3, 4] rfl)
            · refine lv_aload_n hx hb dX4_read_65 rfl (lv_at hl 2 rfl) ?_
              refine z_get cx (k0 := 0) At rfl in_X5 (by decide) q1133 rfl rfl dX4_read_66 ?_
              refine lv_iload hx hb dX4_read_69 (lv_at hl 4 rfl) ?_
              refine z_iald cx Ac (i) (by omega) dX4_read_71 (fun x71 hx71 => ?_)
              have bx71 := hct _ (List.mem_of_getElem? hx71)
              refine lv_bipush (v := iI (10)) hx hb dX4_read_72 (by decide) ?_
              refine z_icmp_eq cx (tgt := 83) dX4_read_74 (by decide) (by omega) (fun c74 => ?_) (fun c74 => ?_)
              · rw [c74] at hx71
                exact l83 _ i (Nat.lt_succ_self _) (nxt_of (by omega) hne (Or.inr hx71)).symm _ _ _ _ _ hS hx9 At Ac Ab Ak Ae (by omega) (by omega) (lv_sub hl [0, 1, 2, 3, 4] rfl)
              · refine z_iinc cx (j := 4) (z := ((i + 1 : Nat) : Int)) (lv' := [(4, .int (iI ((i + 1 : Nat) : Int))), (0, .ref x), (1, .int (iI ↑tape.length)), (2, .ref t), (3, .int (iI ↑a))]) dX4_read_77 hl rfl (by omega) (by decide) rfl (fun ls hl => ?_)
                refine lv_goto (tgt := 59) hx hb dX4_read_80 (by decide) ?_
                exact ih_l59 (i + 1) (by omega) (by omega) (by rw [sl_snoc hx71 (by omega)]; intro c h; rcases List.mem_append.mp h with q | q; exact hne c q; rw [List.mem_singleton.mp q]; exact c74) _ _ _ _ _ hS hx9 At Ac Ab Ak Ae (by omega) (by omega) (lv_sub hl [1, 2, 3, 4, 0] rfl)
        exact l59 _ a (Nat.lt_succ_self _) (by omega) (by rw [sl_nil (Nat.le_refl _)]; intro c h; cases h) _ _ _ _ _ hS hx9 At Ac Ab Ak Ae (by omega) (by omega) (lv_sub hl [1, 2, 3, 4, 0] rfl)
  obtain ⟨Z, hZ⟩ : ∃ Z, Z = List.replicate 100 (0 : Int) := ⟨_, rfl⟩
  rw [← hZ] at Ab Ak Ae
  have hZl : Z.length = 100 := by rw [hZ, List.length_replicate]
  refine lv_astore_n (lv' := [(2, .ref t), (1, .int (iI ↑tape.length)), (0, .ref x)]) hx hb dX4_read_23 rfl hl (by decide) rfl (fun ls hl => ?_)
  refine lv_iconst (v := iI (0)) hx hb dX4_read_24 rfl ?_
  refine lv_istore_n (lv' := [(3, .int (iI 0)), (2, .ref t), (1, .int (iI ↑tape.length)), (0, .ref x)]) hx hb dX4_read_25 rfl hl (by decide) rfl (fun ls hl => ?_)
  have lp1 : ∀ (fuel : Nat) (j : Nat), (tape.length - j) < fuel → (j ≤ tape.length) → ∀ (H : Heap) (locs : List Loc) (ls : Array Slot) (k n : Nat), va_S (fun q => H0.size ≤ q ∨ q = x) H0 H locs → Ob G H x 5 [.ref tp, .int (iI 0), .int (iI (-1)), u3, u4, u5, u6, u7, u8] → Ai G H tp 101 (tape ++ pad) → Ob G H t 6 [.ref c0, .int (iI 0), .ref b0, .ref k0, .ref e0] → Ai G H c0 101 (sl tape 0 j ++ List.replicate (tape.length - j) 0) → Ai G H b0 101 Z → Ai G H k0 101 Z → Ai G H e0 101 Z → (k ≤ mc) → (n ≤ ms) → lv_has ls 6 [(0, .ref x), (1, .int (iI ↑tape.length)), (2, .ref t), (3, .int (iI ↑j))] → W p l e ⟨3, mc, ms, 63⟩ s m args below meth c H locs k n Q (F0 m 26 ls []) := by
    intro fuel
    induction fuel with
    | zero => intro j hf9; exact absurd hf9 (Nat.not_lt_zero _)
    | succ fuel ih_lp1 =>
      intro j hf9 hj H locs ls k n hS hx9 htp At Ac Ab Ak Ae hr1 hr2 hl
      have hL1 : (sl tape 0 j ++ List.replicate (tape.length - j) 0).length = tape.length := by rw [List.length_append, sl_len (by omega), List.length_replicate]; omega
      have hL2 : (tape ++ pad).length = tape.length + pad.length := List.length_append
      refine lv_iload_n hx hb dX4_read_26 rfl (lv_at hl 3 rfl) ?_
      refine lv_iload_n hx hb dX4_read_27 rfl (lv_at hl 1 rfl) ?_
      refine z_icmp_ge cx (tgt := 49) dX4_read_28 (by decide) (by omega) (fun c28 => ?_) (fun c28 => ?_)
      · rw [show j = tape.length by omega, Nat.sub_self, List.replicate_zero, List.append_nil, sl_all] at Ac
        refine lv_iconst (v := iI (0)) hx hb dX4_read_49 rfl ?_
        refine lv_istore_n (lv' := [(3, .int (iI 0)), (0, .ref x), (1, .int (iI ↑tape.length)), (2, .ref t)]) hx hb dX4_read_50 rfl hl (by decide) rfl (fun ls hl => ?_)
        exact lp2 _ (tape.length + 1) 0 [] Z Z Z (Nat.lt_succ_self _) (by rw [List.length_nil]; omega) rfl ⟨hZl, hZl, hZl⟩ (fun u q hq => by cases hq) _ _ _ _ _ hS hx9 At Ac Ab Ak Ae (by omega) (by omega) (lv_sub hl [1, 2, 3, 0] rfl)
      · refine lv_aload_n hx hb dX4_read_31 rfl (lv_at hl 2 rfl) ?_
        refine z_get cx (k0 := 0) At rfl in_X5 (by decide) q1133 rfl rfl dX4_read_32 ?_
        refine lv_iload_n hx hb dX4_read_35 rfl (lv_at hl 3 rfl) ?_
        refine lv_aload_n hx hb dX4_read_36 rfl (lv_at hl 0 rfl) ?_
        refine z_get cx (k0 := 0) hx9 rfl in_X4 (by decide) q1155 rfl rfl dX4_read_37 ?_
        refine lv_iload_n hx hb dX4_read_40 rfl (lv_at hl 3 rfl) ?_
        refine z_iald cx htp (j) (by omega) dX4_read_41 (fun x41 hx41 => ?_)
        refine z_iast cx Ac (Or.inl gt0.1) hS (j) (by omega) dX4_read_42 (fun H locs Ac hz9 hq9 hS => ?_)
        have hx9 := hx9.kept (hq9 _ xne.1)
        have htp := htp.kept (hq9 _ pne)
        have At := At.kept (hq9 _ tne.1)
        have Ab := Ab.kept (hq9 _ (Ne.symm n4))
        have Ak := Ak.kept (hq9 _ (Ne.symm n5))
        have Ae := Ae.kept (hq9 _ (Ne.symm n6))
        rw [List.getElem?_append_left (by omega)] at hx41
        have e2 : tape.length - j = (tape.length - (j + 1)) + 1 := by omega
        rw [e2, fill_set (by rw [sl_len (by omega)]; omega), ← sl_snoc hx41 (Nat.zero_le _)] at Ac
        refine z_iinc cx (j := 3) (z := ((j + 1 : Nat) : Int)) (lv' := [(3, .int (iI ((j + 1 : Nat) : Int))), (0, .ref x), (1, .int (iI ↑tape.length)), (2, .ref t)]) dX4_read_43 hl rfl (by omega) (by decide) rfl (fun ls hl => ?_)
        refine lv_goto (tgt := 26) hx hb dX4_read_46 (by decide) ?_
        exact ih_lp1 (j + 1) (by omega) (by omega) _ _ _ _ _ hS hx9 htp At Ac Ab Ak Ae (by omega) (by omega) (lv_sub hl [1, 2, 3, 0] rfl)
  exact lp1 _ 0 (Nat.lt_succ_self _) (by omega) _ _ _ _ _ hS hx9 htp At (by rw [sl_nil (Nat.le_refl 0)]; exact Ac) Ab Ak Ae (by omega) (by omega) (lv_sub hl [3, 2, 1, 0] rfl)
