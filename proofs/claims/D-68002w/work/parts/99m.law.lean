/-! ===== the law ===== -/
set_option maxHeartbeats 8000000 in
set_option maxRecDepth 100000 in
theorem m_law (G : zE) (l : Launch) (hl0 : l.stackTraces = false) (H0 : Heap) (b L : Nat) (xs : Nat → Int32) (zs : Nat → Int) (kd : Nat → Int) (T : Nat) (hL : L ≤ 256) (hzs : ∀ i : Nat, xs i = iI (zs i) ∧ rg (zs i)) (hkd : ∀ i : Nat, iI (zs (4 * i)) &&& iI 15 = iI (kd i) ∧ 0 ≤ kd i ∧ kd i ≤ 15) (hT : T = cT kd (L / 4)) {mc ms : Nat} (hmc : mc = 601024) (hms : ms = 7293034) (p : Program) (e : Env) (s : State) (m : MethodId) (args : Array Value) (below : List Frame) (meth : Method) (c : Code) (Q : State → Prop) (cx : zC p s m args meth c cL_law "VaryStoreLaw" 7 ret G H0) (hG0 : G.2.heap = H0) (hX : va_X b L xs s H0) (hbl : b < H0.size)
    (hend : ∀ (pc : Nat) (H : Heap) (locs : List Loc) (k n : Nat) (ls : Array Slot), decode cL_law pc = .ok (.ireturn, 1) → va_S (Pur H0) H0 H locs → k ≤ mc ∧ n ≤ ms → W p l e ⟨8192, mc, ms, 100000⟩ s m args below meth c H locs k n Q (F0 m pc ls [.int (iI 1)]))
    (ls : Array Slot) (hl : lv_has ls 7 [(0, .ref b)]) : W p l e ⟨8192, mc, ms, 100000⟩ s m args below meth c H0 [] 0 0 Q (F0 m 0 ls []) := by
  have hx := cx.1
  have hb := cx.2.1
  have hS : va_S (Pur H0) H0 H0 [] := va_S.rf
  have hB : Bh G H0 := ⟨by rw [hG0]; exact Nat.le_refl _, fun q hq => by rw [hG0]⟩
  have hgz : G.2.heap.size = H0.size := by rw [hG0]
  have hTZ := cTZ kd (L / 4)
  have hT64 : T ≤ 64 := by omega
  refine z_new cx (ci := 0) (vs := [.null, .null, .null, .null, .int (iI 0), .int (iI 0), .int (iI 0), .int (iI 0)]) hS rfl in_X1 tyX1_ok q64 q65 q32 (zdefX1) (by omega) dL_law_0 (fun xa H hxa hgxa Axa hz9 hE9 hS => ?_)
  refine lv_dup hx hb dL_law_3 rfl ?_
  refine z_callI cx (j := 0) (m_X1_init G l _ xa (hB.ext (Ext.ofS hS)) Axa (by omega) (mc := 40) (ms := 1000) (Nat.le_refl _) (Nat.le_refl _)) (lw_meth q68) q32 q66 q67 rfl (by decide +kernel) rfl (rest := [.ref xa]) rfl hl (Nat.le_of_ble_eq_true rfl) (by decide) (by omega) dL_law_4 hS (fun q h => by have := hS.1; rcases h with h | h <;> omega) (fun H locs hp4 hz9 hk9 hS => ?_)
  have hRC := hp4
  refine lv_astore_n (lv' := [(1, .ref xa), (0, .ref b)]) hx hb dL_law_7 rfl hl (by decide) rfl (fun ls hl => ?_)
  refine z_new cx (ci := 5) (vs := [.null, .int (iI 0), .int (iI 0), .int (iI 0), .int (iI 0), .long 0, .null, .null, .int (iI 0)]) hS rfl in_X4 tyX4_ok q1120 q1121 q57 (zdefX4) (by omega) dL_law_8 (fun mx H hmx hgmx Amx hz9 hE9 hS => ?_)
  refine lv_dup hx hb dL_law_11 rfl ?_
  have hRC := hRC.ext cx.kk.1 hE9
  have hMx := Amx
  refine z_callI cx (j := 0) (m_X4_init G l _ mx Amx (by omega) (mc := 7) (ms := 630) (Nat.le_refl _) (Nat.le_refl _)) (lw_meth q1124) q57 q1122 q1123 rfl (by decide +kernel) rfl (rest := [.ref mx]) rfl hl (Nat.le_of_ble_eq_true rfl) (by decide) (by omega) dL_law_12 hS (fun q h => by have := hS.1; rcases h with h | h <;> omega) (fun H locs hp12 hz9 hk9 hS => ?_)
  have hRT := hp12
  have hRC := hRC.kc cx.kk (fun q h1 h2 => hk9 q h1 (fun z => z.elim (fun z => absurd h1 (Nat.not_lt.mpr z)) (fun e => h2 (e ▸ Or.inl hMx.cl))))
  clear hk9 hz9
  refine lv_astore_n (lv' := [(2, .ref mx), (1, .ref xa), (0, .ref b)]) hx hb dL_law_15 rfl hl (by decide) rfl (fun ls hl => ?_)
  refine lv_iconst (v := iI (1)) hx hb dL_law_16 rfl ?_
  refine z_newL cx hS (by omega) dL_law_17 (fun oo H hoo hgoo Aoo hz9 hE9 hS => ?_)
  refine lv_astore_n (lv' := [(3, .ref oo), (2, .ref mx), (1, .ref xa), (0, .ref b)]) hx hb dL_law_19 rfl hl (by decide) rfl (fun ls hl => ?_)
  refine lv_iconst (v := iI (0)) hx hb dL_law_20 rfl ?_
  refine lv_istore (lv' := [(4, .int (iI 0)), (3, .ref oo), (2, .ref mx), (1, .ref xa), (0, .ref b)]) hx hb dL_law_21 hl (by decide) rfl (fun ls hl => ?_)
  have hRC := hRC.ext cx.kk.1 hE9
  have hRT := hRT.ext hE9
  have lp : ∀ (fuel : Nat) (j : Nat) (g : Sg) (cs : List Bool) (thr : Int) (v0 : Int64) (A9 K9 c9 : Nat), (64 - j) < fuel → (4 * j ≤ L) → (RI (8 * cT kd j) g A9 K9 c9) → (SI g j) → (Imp (cZ kd j = 0) (gTs g = [] ∧ gReq g = [])) → ∀ (H : Heap) (locs : List Loc) (ls : Array Slot) (k n : Nat), va_S (Pur H0) H0 H locs → Al G H oo v0 → (RepC G H xa cs g) → (RepT G H mx thr g) → (k + uC cs (mrg (gReq g)) ≤ bC (8 * T) (cZ kd j) c9 j) → (n + uS cs (mrg (gReq g)) ≤ bS (8 * T) (cZ kd j) c9 j) → lv_has ls 7 [(0, .ref b), (1, .ref xa), (2, .ref mx), (3, .ref oo), (4, .int (iI ((4 * j : Nat) : Int)))] → W p l e ⟨8192, mc, ms, 100000⟩ s m args below meth c H locs k n Q (F0 m 23 ls []) := by
    intro fuel
    induction fuel with
    | zero => intro j g cs thr v0 A9 K9 c9 hf9; exact absurd hf9 (Nat.not_lt_zero _)
    | succ fuel ih_lp =>
      intro j g cs thr v0 A9 K9 c9 hf9 hj hRI hSI hz0 H locs ls k n hS ho hRC hRT hr1 hr2 hl
      have hjJ : j ≤ L / 4 := by omega
      have hZ1 : cZ kd j ≤ cZ kd (L / 4) := cntP_le _ hjJ
      have hT1 : cT kd j ≤ cT kd (L / 4) := cntP_le _ hjJ
      have hcS := hRI.2.2.2.2
      obtain ⟨hb1, hb2⟩ := bC_le (T := T) (z := cZ kd j) (c := c9) (j := j) (by omega) (by omega) (by omega)
      refine lv_iload hx hb dL_law_23 (lv_at hl 4 rfl) ?_
      refine lv_aload_n hx hb dL_law_25 rfl (lv_at hl 0 rfl) ?_
      refine z_slen cx hX hbl hS dL_law_26 ?_
      refine lv_iconst (v := iI (4)) hx hb dL_law_27 rfl ?_
      refine z_isub cx (z := ↑L - 4) dL_law_28 (by omega) ?_
      refine z_icmp_gt cx (tgt := 520) dL_law_29 (by decide) (by omega) (fun c29 => ?_) (fun c29 => ?_)
      · clear hz0
        refine lv_iconst (v := iI (1)) hx hb dL_law_520 rfl ?_
        exact hend _ _ _ _ _ _ dL_law_521 hS ⟨by omega, by omega⟩
      · have hjl : 4 * j + 4 ≤ L := by clear hz0; omega
        obtain ⟨hk1, hk2, hk3⟩ := hkd j
        have hZ2 : cZ kd (j + 1) ≤ cZ kd (L / 4) := cntP_le _ (by omega)
        have hT2 : cT kd (j + 1) ≤ cT kd (L / 4) := cntP_le _ (by omega)
        have hsg := hRC.sg
        have hn3 := hsg.2.1
        have hfa := hsg.2.2.1
        have hti := hsg.2.2.2.1
        have hn24 := hsg.2.2.2.2.1
        have hus : gUse g < 99999 := by have := hSI.2.2; omega
        have hr9 := hzs (4 * j + 1)
        have hr8 := hzs (4 * j + 2)
        have hr7 := hzs (4 * j + 3)
        have hNQ : ((116 + 2 * (gTape g).length) * (gTape g).length) ≤ 716 * (gTape g).length := Nat.mul_le_mul_right _ (by omega)
        have hRI8 : RI (8 * T) g A9 K9 c9 := hRI.mono (by omega)
        obtain ⟨U1, hU1⟩ : ∃ u, u = (if cZ kd j = 0 then 0 else cM (8 * T)) := ⟨_, rfl⟩
        obtain ⟨U2, hU2⟩ : ∃ u, u = (if cZ kd j = 0 then 0 else sM (8 * T)) := ⟨_, rfl⟩
        obtain ⟨hs1, hs2⟩ := bC_z (8 * T) (cZ kd j) c9 (gTape g).length j
        obtain ⟨hs3, hs4⟩ := bC_o (8 * T) (cZ kd j) c9 j
        obtain ⟨hb5, hb6⟩ := bC_le (T := T) (z := cZ kd j) (c := c9) (j := j + 1) (by omega) (by omega) (by omega)
        rw [← hU1] at hs1
        rw [← hU2] at hs2
        have hse := cZ_s (kd := kd) (j := j)
        have hte := cT_s (kd := kd) (j := j)
        refine lv_aload_n hx hb dL_law_32 rfl (lv_at hl 0 rfl) ?_
        refine lv_iload hx hb dL_law_33 (lv_at hl 4 rfl) ?_
        refine z_sld cx hX hbl hzs hS (4 * j) (by omega) dL_law_35 ?_
        refine lv_bipush (v := iI (15)) hx hb dL_law_36 (by decide) ?_
        refine z_iand15 cx hk1 dL_law_38 ?_
        have l514 : ∀ (fuel : Nat) (g9 : Sg) (cs9 : List Bool) (thr9 : Int) (v9 : Int64) (A8 K8 c8 : Nat), 0 < fuel → (RI (8 * cT kd (j + 1)) g9 A8 K8 c8) → (SI g9 (j + 1)) → (Imp (cZ kd (j + 1) = 0) (gTs g9 = [] ∧ gReq g9 = [])) → ∀ (H : Heap) (locs : List Loc) (ls : Array Slot) (k n : Nat), va_S (Pur H0) H0 H locs → Al G H oo v9 → (RepC G H xa cs9 g9) → (RepT G H mx thr9 g9) → (k + uC cs9 (mrg (gReq g9)) ≤ bC (8 * T) (cZ kd (j + 1)) c8 (j + 1)) → (n + uS cs9 (mrg (gReq g9)) ≤ bS (8 * T) (cZ kd (j + 1)) c8 (j + 1)) → lv_has ls 7 [(0, .ref b), (1, .ref xa), (2, .ref mx), (3, .ref oo), (4, .int (iI ((4 * j : Nat) : Int)))] → W p l e ⟨8192, mc, ms, 100000⟩ s m args below meth c H locs k n Q (F0 m 514 ls []) := by
          intro fuel
          induction fuel with
          | zero => intro g9 cs9 thr9 v9 A8 K8 c8 hf9; exact absurd hf9 (Nat.not_lt_zero _)
          | succ fuel ih_l514 =>
            intro g9 cs9 thr9 v9 A8 K8 c8 hf9 hRI hSI hz0 H locs ls k n hS ho hRC hRT hr1 hr2 hl
            refine z_iinc cx (j := 4) (z := ((4 * (j + 1) : Nat) : Int)) (lv' := [(4, .int (iI ((4 * (j + 1) : Nat) : Int))), (0, .ref b), (1, .ref xa), (2, .ref mx), (3, .ref oo)]) dL_law_514 hl rfl (by omega) (by decide) rfl (fun ls hl => ?_)
            refine lv_goto (tgt := 23) hx hb dL_law_517 (by decide) ?_
            exact ih_lp (j + 1) g9 cs9 thr9 v9 A8 K8 c8 (by clear hz0; omega) (by omega) hRI hSI hz0 _ _ _ _ _ hS ho hRC hRT hr1 hr2 (lv_sub hl [1, 2, 3, 4, 0] rfl)
        rcases (show kd j = 0 ∨ kd j = 1 ∨ kd j = 2 ∨ kd j = 3 ∨ kd j = 4 ∨ kd j = 5 ∨ kd j = 6 ∨ kd j = 7 ∨ kd j = 8 ∨ 8 < kd j by omega) with h | h | h | h | h | h | h | h | h | h
        · rw [if_pos h] at hte
          rw [if_neg (by omega), Nat.add_zero] at hse
          rw [h]
          obtain ⟨tp1, th1, ed1, cap1, rq1, wi1, mz1, as1, rs1, pad1, hx1, hR2, hm1, hok1, htz1⟩ := id hRC
          obtain ⟨⟨hm11, -⟩, -, -, -, hxb1, htb1, -⟩ := id hm1
          refine z_swIn cx (tgt := 88) dL_law_39 (by decide) (by decide) rfl (by decide) ?_
          refine lv_aload_n hx hb dL_law_88 rfl (lv_at hl 1 rfl) ?_
          refine lv_aload_n hx hb dL_law_89 rfl (lv_at hl 0 rfl) ?_
          refine lv_iload hx hb dL_law_90 (lv_at hl 4 rfl) ?_
          refine lv_iconst (v := iI (1)) hx hb dL_law_92 rfl ?_
          refine z_iadd cx (z := ((4 * j + 1 : Nat) : Int)) dL_law_93 (by omega) ?_
          refine z_sld cx hX hbl hzs hS (4 * j + 1) (by omega) dL_law_94 ?_
          refine lv_i2l (v := (iI (zs (4 * j + 1))).toInt64) hx hb dL_law_95 rfl ?_
          refine lv_bipush (v := iI (32)) hx hb dL_law_96 (by decide) ?_
          refine lv_lshl (v := (((iI (zs (4 * j + 1))).toInt64) <<< ((iI 32).toInt64 &&& 63))) hx hb dL_law_98 rfl ?_
          refine lv_aload_n hx hb dL_law_99 rfl (lv_at hl 0 rfl) ?_
          refine lv_iload hx hb dL_law_100 (lv_at hl 4 rfl) ?_
          refine lv_iconst (v := iI (2)) hx hb dL_law_102 rfl ?_
          refine z_iadd cx (z := ((4 * j + 2 : Nat) : Int)) dL_law_103 (by omega) ?_
          refine z_sld cx hX hbl hzs hS (4 * j + 2) (by omega) dL_law_104 ?_
          refine lv_i2l (v := (iI (zs (4 * j + 2))).toInt64) hx hb dL_law_105 rfl ?_
          refine lv_ldc2 hx hb cx.wn (cx.ts _ q1405) dL_law_106 ?_
          refine lv_land hx hb dL_law_109 ?_
          refine lv_lor hx hb dL_law_110 ?_
          refine lv_aload_n hx hb dL_law_111 rfl (lv_at hl 0 rfl) ?_
          refine lv_iload hx hb dL_law_112 (lv_at hl 4 rfl) ?_
          refine lv_iconst (v := iI (3)) hx hb dL_law_114 rfl ?_
          refine z_iadd cx (z := ((4 * j + 3 : Nat) : Int)) dL_law_115 (by omega) ?_
          refine z_sld cx hX hbl hzs hS (4 * j + 3) (by omega) dL_law_116 ?_
          refine z_callV cx (j := 2) (m_X1_type G l _ xa tp1 (((iI (zs (4 * j + 1))).toInt64 <<< ((iI 32).toInt64 &&& 63)) ||| ((iI (zs (4 * j + 2))).toInt64 &&& 4294967295)) (zs (4 * j + 3)) (gTape g) pad1 (.ref th1) (.ref rq1) (.ref wi1) (.int (iI (gFault g))) (.int (iI (gTime g))) (.int (iI (gUse g : Int))) hx1 hR2.1 hr7.2 hm11 (mc := 0) (ms := 0)) (lw_V q697 q698 q699 q32 q700) (zrecv cx hx1 rfl) (by decide +kernel) rfl (rest := []) rfl hl (Nat.le_of_ble_eq_true rfl) (by decide) (by omega) dL_law_117 hS (fun q h => by have := hS.1; rcases h with h | h | h <;> omega) (fun v117 H locs hp117 hz9 hk9 hS => ?_)
          obtain ⟨rfl, hRC1⟩ := typ_repC hx1 hR2 hm1 hok1 htz1 cx.kk hk9 hp117
          have hk8 : ∀ q : Nat, q < _ → ¬ AC G _ q → H[q]? = _ := fun q h1 h2 => hk9 q h1 (fun z => h2 (by rcases z with z | z | z; exact Or.inl z; exact z ▸ AC.x hx1 hxb1; exact z ▸ AC.tp hR2.1 htb1))
          have hRT1 := hRT.overC cx.kk hk8
          have ho1 := ho.overC cx.kk hk8
          clear hk8 hk9 hz9
          obtain ⟨tp2, th2, rt2, as2, pad2, cs2, lz2, hx2, hQ2, hm2, hok2⟩ := id hRT1
          obtain ⟨hm21, -, -, hxb2, htb2, -⟩ := id hm2
          refine lv_aload_n hx hb dL_law_120 rfl (lv_at hl 2 rfl) ?_
          refine lv_aload_n hx hb dL_law_121 rfl (lv_at hl 0 rfl) ?_
          refine lv_iload hx hb dL_law_122 (lv_at hl 4 rfl) ?_
          refine lv_iconst (v := iI (1)) hx hb dL_law_124 rfl ?_
          refine z_iadd cx (z := ((4 * j + 1 : Nat) : Int)) dL_law_125 (by omega) ?_
          refine z_sld cx hX hbl hzs hS (4 * j + 1) (by omega) dL_law_126 ?_
          refine lv_i2l (v := (iI (zs (4 * j + 1))).toInt64) hx hb dL_law_127 rfl ?_
          refine lv_bipush (v := iI (32)) hx hb dL_law_128 (by decide) ?_
          refine lv_lshl (v := (((iI (zs (4 * j + 1))).toInt64) <<< ((iI 32).toInt64 &&& 63))) hx hb dL_law_130 rfl ?_
          refine lv_aload_n hx hb dL_law_131 rfl (lv_at hl 0 rfl) ?_
          refine lv_iload hx hb dL_law_132 (lv_at hl 4 rfl) ?_
          refine lv_iconst (v := iI (2)) hx hb dL_law_134 rfl ?_
          refine z_iadd cx (z := ((4 * j + 2 : Nat) : Int)) dL_law_135 (by omega) ?_
          refine z_sld cx hX hbl hzs hS (4 * j + 2) (by omega) dL_law_136 ?_
          refine lv_i2l (v := (iI (zs (4 * j + 2))).toInt64) hx hb dL_law_137 rfl ?_
          refine lv_ldc2 hx hb cx.wn (cx.ts _ q1405) dL_law_138 ?_
          refine lv_land hx hb dL_law_141 ?_
          refine lv_lor hx hb dL_law_142 ?_
          refine lv_aload_n hx hb dL_law_143 rfl (lv_at hl 0 rfl) ?_
          refine lv_iload hx hb dL_law_144 (lv_at hl 4 rfl) ?_
          refine lv_iconst (v := iI (3)) hx hb dL_law_146 rfl ?_
          refine z_iadd cx (z := ((4 * j + 3 : Nat) : Int)) dL_law_147 (by omega) ?_
          refine z_sld cx hX hbl hzs hS (4 * j + 3) (by omega) dL_law_148 ?_
          have hrb := b2i_rg (tyOk (((iI (zs (4 * j + 1))).toInt64 <<< ((iI 32).toInt64 &&& 63)) ||| ((iI (zs (4 * j + 2))).toInt64 &&& 4294967295)) (zs (4 * j + 3)) (gTape g).length)
          refine z_callV cx (j := 2) (m_X4_type G l _ mx tp2 (((iI (zs (4 * j + 1))).toInt64 <<< ((iI 32).toInt64 &&& 63)) ||| ((iI (zs (4 * j + 2))).toInt64 &&& 4294967295)) (zs (4 * j + 3)) (gTape g) pad2 (.int (iI (gFault g))) (.int (iI (gTime g))) (.int (iI thr)) (.long (lN (gUse g))) (.ref rt2) (.ref th2) (.int (iI (as2.length : Int))) hx2 hQ2.1 hr7.2 hm21 (mc := 0) (ms := 0)) (lw_V q1187 q1188 q1189 q57 q1190) (zrecv cx hx2 rfl) (by decide +kernel) rfl (rest := [.int (iI (b2i (tyOk (((iI (zs (4 * j + 1))).toInt64 <<< ((iI 32).toInt64 &&& 63)) ||| ((iI (zs (4 * j + 2))).toInt64 &&& 4294967295)) (zs (4 * j + 3)) (gTape g).length)))]) rfl hl (Nat.le_of_ble_eq_true rfl) (by decide) (by omega) dL_law_149 hS (fun q h => by have := hS.1; rcases h with h | h | h <;> omega) (fun v149 H locs hp149 hz9 hk9 hS => ?_)
          obtain ⟨rfl, hRT2⟩ := typ_rep hx2 hQ2 hm2 hok2 cx.kk hk9 hp149
          have hk8 : ∀ q : Nat, q < _ → ¬ AT G _ q → H[q]? = _ := fun q h1 h2 => hk9 q h1 (fun z => h2 (by rcases z with z | z | z; exact Or.inl z; exact z ▸ AT.x hx2 hxb2; exact z ▸ AT.i hQ2.1 htb2))
          have hRC2 := hRC1.overT cx.kk hk8
          have ho2 := ho1.overT cx.kk hk8
          clear hk8 hk9 hz9
          refine z_icmp_eq cx (tgt := 514) dL_law_152 (by decide) (by omega) (fun c152 => ?_) (fun c152 => (by exfalso; exact c152 rfl))
          exact l514 _ (typS (((iI (zs (4 * j + 1))).toInt64 <<< ((iI 32).toInt64 &&& 63)) ||| ((iI (zs (4 * j + 2))).toInt64 &&& 4294967295)) (zs (4 * j + 3)) g) cs 0 v0 A9 K9 c9 (Nat.lt_succ_self _) (by rw [hte]; exact hRI.typ _ _) ((hSI.mono (Nat.le_succ j)).typ _ _) (fun z => by rw [(typS_eq _ _ _).1, (typS_eq _ _ _).2.1]; exact hz0 (by omega)) _ _ _ _ _ hS ho2 hRC2 hRT2 (by rw [(typS_eq _ _ _).2.1, hse]; clear hz0; omega) (by rw [(typS_eq _ _ _).2.1, hse]; clear hz0; omega) (lv_sub hl [0, 1, 2, 3, 4] rfl)
        · rw [if_neg (by omega), Nat.add_zero] at hte
          rw [if_pos (by omega)] at hse
          rw [← hse] at hs1 hs2
          rw [h]
          obtain ⟨hb3, hb4⟩ := bC_le (T := T) (z := cZ kd (j + 1)) (c := c9 + (gTape g).length) (j := j + 1) (by omega) (by omega) (by omega)
          obtain ⟨q1, q2, q3⟩ := ask_cost hT64 hRI8 hn3
          have hca : askC g ≤ U1 + 11 * (gTape g).length + 31 ∧ askM g ≤ U2 + 45 * (gTape g).length + 716 := by
            rw [hU1, hU2]
            split
            · rename_i hz
              have := q3 (hz0 hz).1
              omega
            · omega
          clear q1 q2 q3 hz0
          refine z_swIn cx (tgt := 157) dL_law_39 (by decide) (by decide) rfl (by decide) ?_
          refine lv_aload_n hx hb dL_law_157 rfl (lv_at hl 1 rfl) ?_
          refine lv_aload_n hx hb dL_law_158 rfl (lv_at hl 0 rfl) ?_
          refine lv_iload hx hb dL_law_159 (lv_at hl 4 rfl) ?_
          refine lv_iconst (v := iI (1)) hx hb dL_law_161 rfl ?_
          refine z_iadd cx (z := ((4 * j + 1 : Nat) : Int)) dL_law_162 (by omega) ?_
          refine z_sld cx hX hbl hzs hS (4 * j + 1) (by omega) dL_law_163 ?_
          refine lv_aload_n hx hb dL_law_164 rfl (lv_at hl 3 rfl) ?_
          refine z_callSW cx (j := 3) (m_X0_ask G l _ hl0 xa oo (zs (4 * j + 1)) v0 cs g (hB.ext (Ext.ofS hS)) hRC ho hr9.2 hus (mc := 43 * (gTape g).length + 100) (ms := ((116 + 2 * (gTape g).length) * (gTape g).length) + 378 * (gTape g).length + 1100) (Nat.le_refl _) (Nat.le_refl _)) (lw_SW q718 q719 q31 q720) (by decide +kernel) rfl (rest := []) rfl hl (Nat.le_of_ble_eq_true rfl) (by decide) (by omega) dL_law_165 hS (fun q h => by have := hS.1; rcases h with h | h; have := AC.own (hB.ext (Ext.ofS hS)) q h; omega; omega) (fun v165 H locs hp165 hz9 hk9 hS => ?_)
          have hRT1 := hRT.overW cx.kk ho hk9
          clear hk9 hz9
          obtain ⟨vs2, hx2⟩ := hRT1.obx
          rcases hp165 with ⟨hrd, rfl, ho1, cs', hRC1⟩ | ⟨hrd, rfl, ho1, hRC1⟩
          · refine lv_istore (lv' := [(5, .int (iI 0)), (0, .ref b), (1, .ref xa), (2, .ref mx), (3, .ref oo), (4, .int (iI ((4 * j : Nat) : Int)))]) hx hb dL_law_168 hl (by decide) rfl (fun ls hl => ?_)
            refine lv_aload_n hx hb dL_law_170 rfl (lv_at hl 3 rfl) ?_
            refine lv_aload_n hx hb dL_law_171 rfl (lv_at hl 1 rfl) ?_
            refine lv_iload hx hb dL_law_172 (lv_at hl 5 rfl) ?_
            refine lv_iconst (v := iI (1)) hx hb dL_law_174 rfl ?_
            refine z_iadd cx (z := ((4 * j + 1 : Nat) : Int)) dL_law_175 (by omega) ?_
            refine z_sld cx hX hbl hzs hS (4 * j + 1) (by omega) dL_law_176 ?_
            refine z_callV cx (j := 1) (m_X4_ask G l _ mx (zs (4 * j + 1)) thr g hRT1 hr9.2 hus (mc := askC g) (ms := askM g) (Nat.le_refl _) (Nat.le_refl _)) (lw_V q1192 q1193 q1194 q57 q1195) (zrecv cx hx2 rfl) (by decide +kernel) rfl (rest := []) rfl hl (Nat.le_of_ble_eq_true rfl) (by decide) (by omega) dL_law_177 hS (fun q h => by have := hS.1; have := AT.own (hB.ext (Ext.ofS hS)) q h; omega) (fun v177 H locs hp177 hz9 hk9 hS => ?_)
            obtain ⟨rfl, hRT2⟩ := hp177.1 hrd
            have hRC2 := hRC1.overT cx.kk hk9
            have ho2 := ho1.overT cx.kk hk9
            clear hk9 hz9
            obtain ⟨vs3, hx2⟩ := hRT2.obx
            refine lv_istore (lv' := [(6, .int (iI (askA g (zs (4 * j + 1))))), (5, .int (iI 0)), (0, .ref b), (1, .ref xa), (2, .ref mx), (3, .ref oo), (4, .int (iI ((4 * j : Nat) : Int)))]) hx hb dL_law_180 hl (by decide) rfl (fun ls hl => ?_)
            refine lv_aload_n hx hb dL_law_182 rfl (lv_at hl 4 rfl) ?_
            refine z_callV cx (j := 0) (m_X4_thrown G l _ mx 0 _ hRT2 (mc := 0) (ms := 0)) (lw_V q1183 q1184 q1185 q57 q1186) (zrecv cx hx2 rfl) (by decide +kernel) rfl (rest := []) rfl hl (Nat.le_of_ble_eq_true rfl) (by decide) (by omega) dL_law_183 hS (fun q h => Nat.le_trans hS.1 h) (fun v183 H locs hp183 hz9 hk9 hS => ?_)
            have hE9 := Ext.of hz9 hk9 (fun q h => h)
            have hx2 := hx2.ext hE9
            have ho2 := ho2.ext hE9
            subst hp183
            have hRC2 := hRC2.ext cx.kk.1 hE9
            have hRT2 := hRT2.ext hE9
            refine lv_iload hx hb dL_law_186 (lv_at hl 1 rfl) ?_
            refine z_icmp_eq cx (tgt := 193) dL_law_188 (by decide) (by omega) (fun c188 => ?_) (fun c188 => (by exfalso; exact c188 rfl))
            refine lv_iload hx hb dL_law_193 (lv_at hl 1 rfl) ?_
            refine z_if_ne cx (tgt := 210) dL_law_195 (by decide) (by omega) (fun c195 => (by exfalso; exact c195 rfl)) (fun c195 => ?_)
            refine lv_aload_n hx hb dL_law_198 rfl (lv_at hl 5 rfl) ?_
            refine lv_iconst (v := iI (0)) hx hb dL_law_199 rfl ?_
            refine z_lald cx ho2 dL_law_200 ?_
            refine lv_iload hx hb dL_law_201 (lv_at hl 0 rfl) ?_
            refine lv_i2l (v := (iI (askA g (zs (4 * j + 1)))).toInt64) hx hb dL_law_203 rfl ?_
            refine W.lcmp hx hb dL_law_204 ?_
            refine lv_if_eq (tgt := 210) hx hb dL_law_205 (by decide) (fun c205 => ?_) (fun c205 => (by exfalso; exact c205 ((lg_cmp_eq _ _).mpr rfl)))
            refine lv_goto (tgt := 514) hx hb dL_law_210 (by decide) ?_
            have hu9 := uC_req cs' (rdX g)
            have hu8 := rdX_nsz g
            exact l514 _ (askS g (zs (4 * j + 1))) cs' 0 (iI (askA g (zs (4 * j + 1)))).toInt64 (A9 + (gTape g).length) K9 (c9 + (gTape g).length) (Nat.lt_succ_self _) (by rw [hte]; exact hRI.ask _) (hSI.ask _) (fun z => absurd z (by omega)) _ _ _ _ _ hS ho2 hRC2 hRT2 (by rw [askS_req]; omega) (by rw [askS_req]; omega) (lv_sub hl [2, 3, 4, 5, 6] rfl)
          · refine lv_istore (lv' := [(5, .int (iI 1)), (0, .ref b), (1, .ref xa), (2, .ref mx), (3, .ref oo), (4, .int (iI ((4 * j : Nat) : Int)))]) hx hb dL_law_168 hl (by decide) rfl (fun ls hl => ?_)
            refine lv_aload_n hx hb dL_law_170 rfl (lv_at hl 3 rfl) ?_
            refine lv_aload_n hx hb dL_law_171 rfl (lv_at hl 1 rfl) ?_
            refine lv_iload hx hb dL_law_172 (lv_at hl 5 rfl) ?_
            refine lv_iconst (v := iI (1)) hx hb dL_law_174 rfl ?_
            refine z_iadd cx (z := ((4 * j + 1 : Nat) : Int)) dL_law_175 (by omega) ?_
            refine z_sld cx hX hbl hzs hS (4 * j + 1) (by omega) dL_law_176 ?_
            refine z_callV cx (j := 1) (m_X4_ask G l _ mx (zs (4 * j + 1)) thr g hRT1 hr9.2 hus (mc := askC g) (ms := askM g) (Nat.le_refl _) (Nat.le_refl _)) (lw_V q1192 q1193 q1194 q57 q1195) (zrecv cx hx2 rfl) (by decide +kernel) rfl (rest := []) rfl hl (Nat.le_of_ble_eq_true rfl) (by decide) (by omega) dL_law_177 hS (fun q h => by have := hS.1; have := AT.own (hB.ext (Ext.ofS hS)) q h; omega) (fun v177 H locs hp177 hz9 hk9 hS => ?_)
            obtain ⟨rfl, hRT2⟩ := hp177.2 hrd
            have hRC2 := hRC1.overT cx.kk hk9
            have ho2 := ho1.overT cx.kk hk9
            clear hk9 hz9
            obtain ⟨vs3, hx2⟩ := hRT2.obx
            refine lv_istore (lv' := [(6, .int (iI 0)), (5, .int (iI 1)), (0, .ref b), (1, .ref xa), (2, .ref mx), (3, .ref oo), (4, .int (iI ((4 * j : Nat) : Int)))]) hx hb dL_law_180 hl (by decide) rfl (fun ls hl => ?_)
            refine lv_aload_n hx hb dL_law_182 rfl (lv_at hl 4 rfl) ?_
            refine z_callV cx (j := 0) (m_X4_thrown G l _ mx 1 _ hRT2 (mc := 0) (ms := 0)) (lw_V q1183 q1184 q1185 q57 q1186) (zrecv cx hx2 rfl) (by decide +kernel) rfl (rest := []) rfl hl (Nat.le_of_ble_eq_true rfl) (by decide) (by omega) dL_law_183 hS (fun q h => Nat.le_trans hS.1 h) (fun v183 H locs hp183 hz9 hk9 hS => ?_)
            have hE9 := Ext.of hz9 hk9 (fun q h => h)
            have hx2 := hx2.ext hE9
            have ho2 := ho2.ext hE9
            subst hp183
            have hRC2 := hRC2.ext cx.kk.1 hE9
            have hRT2 := hRT2.ext hE9
            refine lv_iload hx hb dL_law_186 (lv_at hl 1 rfl) ?_
            refine z_icmp_eq cx (tgt := 193) dL_law_188 (by decide) (by omega) (fun c188 => ?_) (fun c188 => (by exfalso; exact c188 rfl))
            refine lv_iload hx hb dL_law_193 (lv_at hl 1 rfl) ?_
            refine z_if_ne cx (tgt := 210) dL_law_195 (by decide) (by omega) (fun c195 => ?_) (fun c195 => (by exfalso; exact absurd c195 (by decide)))
            refine lv_goto (tgt := 514) hx hb dL_law_210 (by decide) ?_
            exact l514 _ (rdS g) cs 1 v0 A9 K9 (c9 + (gTape g).length) (Nat.lt_succ_self _) (by rw [hte]; exact hRI.rd) (hSI.mono (Nat.le_succ j)) (fun z => absurd z (by omega)) _ _ _ _ _ hS ho2 hRC2 hRT2 (by show _ + uC cs (mrg (gReq g)) ≤ _; omega) (by show _ + uS cs (mrg (gReq g)) ≤ _; omega) (lv_sub hl [2, 3, 4, 5, 6] rfl)
        · rw [if_neg (by omega), Nat.add_zero] at hte
          rw [if_pos (by omega)] at hse
          rw [← hse] at hs1 hs2
          rw [h]
          obtain ⟨hb3, hb4⟩ := bC_le (T := T) (z := cZ kd (j + 1)) (c := c9 + (gTape g).length) (j := j + 1) (by omega) (by omega) (by omega)
          obtain ⟨q1, q2, q3⟩ := keep_cost hT64 hRI8 hn3 (zs (4 * j + 1))
          have hca : keepC g (zs (4 * j + 1)) ≤ U1 + 21 * (gTape g).length + 60 ∧ keepM g (zs (4 * j + 1)) ≤ U2 + 210 * (gTape g).length + 900 := by
            rw [hU1, hU2]
            split
            · rename_i hz
              have := q3 (hz0 hz).1 (hz0 hz).2
              omega
            · omega
          clear q1 q2 q3 hz0
          obtain ⟨f1, f2, -⟩ := csV_le (T := mrg (gReq g)) (kVy (rdX g)) cs hRC.flags
          refine z_swIn cx (tgt := 213) dL_law_39 (by decide) (by decide) rfl (by decide) ?_
          refine lv_aload_n hx hb dL_law_213 rfl (lv_at hl 1 rfl) ?_
          refine lv_aload_n hx hb dL_law_214 rfl (lv_at hl 0 rfl) ?_
          refine lv_iload hx hb dL_law_215 (lv_at hl 4 rfl) ?_
          refine lv_iconst (v := iI (1)) hx hb dL_law_217 rfl ?_
          refine z_iadd cx (z := ((4 * j + 1 : Nat) : Int)) dL_law_218 (by omega) ?_
          refine z_sld cx hX hbl hzs hS (4 * j + 1) (by omega) dL_law_219 ?_
          refine lv_aload_n hx hb dL_law_220 rfl (lv_at hl 3 rfl) ?_
          rcases (show rdOk g (zs (4 * j + 1)) = true ∨ rdOk g (zs (4 * j + 1)) = false by cases rdOk g (zs (4 * j + 1)) <;> simp) with hrd | hrd
          · refine z_callSW cx (j := 3) (m_X0_keep G l _ hl0 xa oo (zs (4 * j + 1)) v0 cs g (hB.ext (Ext.ofS hS)) hRC ho hr9.2 hus hSI.1 hSI.2.1 (mc := uC cs (mrg (gReq g)) - uC (csV (mrg (gReq g)) cs (kVy (rdX g))) (mrg (gReq g)) + 50 * (gTape g).length + 200) (ms := uS cs (mrg (gReq g)) - uS (csV (mrg (gReq g)) cs (kVy (rdX g))) (mrg (gReq g)) + ((116 + 2 * (gTape g).length) * (gTape g).length) + 150 * (gTape g).length + 2000) ⟨by omega, by omega⟩ (fun _ => by omega) (fun _ => by omega)) (lw_SW q868 q869 q31 q870) (by decide +kernel) rfl (rest := []) rfl hl (Nat.le_of_ble_eq_true rfl) (by decide) (by omega) dL_law_221 hS (fun q h => by have := hS.1; rcases h with h | h; have := AC.own (hB.ext (Ext.ofS hS)) q h; omega; omega) (fun v221 H locs hp221 hz9 hk9 hS => ?_)
            obtain ⟨-, rfl, ho1, hRC1⟩ := hp221.resolve_right (fun z => absurd (hrd.symm.trans z.1) (by decide))
            have hRT1 := hRT.overW cx.kk ho hk9
            clear hk9 hz9
            obtain ⟨vs2, hx2⟩ := hRT1.obx
            refine lv_istore (lv' := [(5, .int (iI 0)), (0, .ref b), (1, .ref xa), (2, .ref mx), (3, .ref oo), (4, .int (iI ((4 * j : Nat) : Int)))]) hx hb dL_law_224 hl (by decide) rfl (fun ls hl => ?_)
            refine lv_aload_n hx hb dL_law_226 rfl (lv_at hl 3 rfl) ?_
            refine lv_aload_n hx hb dL_law_227 rfl (lv_at hl 1 rfl) ?_
            refine lv_iload hx hb dL_law_228 (lv_at hl 5 rfl) ?_
            refine lv_iconst (v := iI (1)) hx hb dL_law_230 rfl ?_
            refine z_iadd cx (z := ((4 * j + 1 : Nat) : Int)) dL_law_231 (by omega) ?_
            refine z_sld cx hX hbl hzs hS (4 * j + 1) (by omega) dL_law_232 ?_
            refine z_callV cx (j := 1) (m_X4_keep G l _ mx (zs (4 * j + 1)) thr g hRT1 hr9.2 hus (mc := keepC g (zs (4 * j + 1))) (ms := keepM g (zs (4 * j + 1))) (Nat.le_refl _) (Nat.le_refl _)) (lw_V q1286 q1287 q1288 q57 q1289) (zrecv cx hx2 rfl) (by decide +kernel) rfl (rest := []) rfl hl (Nat.le_of_ble_eq_true rfl) (by decide) (by omega) dL_law_233 hS (fun q h => by have := hS.1; have := AT.own (hB.ext (Ext.ofS hS)) q h; omega) (fun v233 H locs hp233 hz9 hk9 hS => ?_)
            obtain ⟨rfl, hRT2⟩ := hp233.1 hrd
            have hRC2 := hRC1.overT cx.kk hk9
            have ho2 := ho1.overT cx.kk hk9
            clear hk9 hz9
            obtain ⟨vs3, hx2⟩ := hRT2.obx
            refine lv_istore (lv' := [(6, .int (iI (b2i (kMay g (zs (4 * j + 1)))))), (5, .int (iI 0)), (0, .ref b), (1, .ref xa), (2, .ref mx), (3, .ref oo), (4, .int (iI ((4 * j : Nat) : Int)))]) hx hb dL_law_236 hl (by decide) rfl (fun ls hl => ?_)
            refine lv_aload_n hx hb dL_law_238 rfl (lv_at hl 4 rfl) ?_
            refine z_callV cx (j := 0) (m_X4_thrown G l _ mx 0 _ hRT2 (mc := 0) (ms := 0)) (lw_V q1183 q1184 q1185 q57 q1186) (zrecv cx hx2 rfl) (by decide +kernel) rfl (rest := []) rfl hl (Nat.le_of_ble_eq_true rfl) (by decide) (by omega) dL_law_239 hS (fun q h => Nat.le_trans hS.1 h) (fun v239 H locs hp239 hz9 hk9 hS => ?_)
            have hE9 := Ext.of hz9 hk9 (fun q h => h)
            have hx2 := hx2.ext hE9
            have ho2 := ho2.ext hE9
            subst hp239
            have hRC2 := hRC2.ext cx.kk.1 hE9
            have hRT2 := hRT2.ext hE9
            have hrb := b2i_rg (kMay g (zs (4 * j + 1)))
            refine lv_iload hx hb dL_law_242 (lv_at hl 1 rfl) ?_
            refine z_icmp_eq cx (tgt := 249) dL_law_244 (by decide) (by omega) (fun c244 => ?_) (fun c244 => (by exfalso; exact c244 rfl))
            refine lv_iload hx hb dL_law_249 (lv_at hl 1 rfl) ?_
            refine z_if_ne cx (tgt := 273) dL_law_251 (by decide) (by omega) (fun c251 => (by exfalso; exact c251 rfl)) (fun c251 => ?_)
            refine lv_aload_n hx hb dL_law_254 rfl (lv_at hl 5 rfl) ?_
            refine lv_iconst (v := iI (0)) hx hb dL_law_255 rfl ?_
            refine z_lald cx ho2 dL_law_256 ?_
            refine lv_iload hx hb dL_law_257 (lv_at hl 0 rfl) ?_
            refine z_if_eq cx (tgt := 266) dL_law_259 (by decide) (by omega) (fun c259 => ?_) (fun c259 => ?_)
            · have hb0 := b2i_eq0 c259
              refine lv_lconst (v := 0) hx hb dL_law_266 (by decide) ?_
              refine W.lcmp hx hb dL_law_267 ?_
              refine lv_if_eq (tgt := 273) hx hb dL_law_268 (by decide) (fun c268 => ?_) (fun c268 => (by exfalso; exact c268 ((lg_cmp_eq _ _).mpr (by rw [hb0]; rfl))))
              refine lv_goto (tgt := 514) hx hb dL_law_273 (by decide) ?_
              exact l514 _ (keepS g (zs (4 * j + 1))) _ 0 _ A9 (K9 + (gTape g).length) (c9 + (gTape g).length) (Nat.lt_succ_self _) (by rw [hte]; exact hRI.keep _) (hSI.keep hRI _) (fun z => absurd z (by omega)) _ _ _ _ _ hS ho2 hRC2 hRT2 (by rw [keepS_req]; omega) (by rw [keepS_req]; omega) (lv_sub hl [2, 3, 4, 5, 6] rfl)
            · have hb0 := b2i_ne0 c259
              refine lv_lconst (v := 1) hx hb dL_law_262 (by decide) ?_
              refine lv_goto (tgt := 267) hx hb dL_law_263 (by decide) ?_
              refine W.lcmp hx hb dL_law_267 ?_
              refine lv_if_eq (tgt := 273) hx hb dL_law_268 (by decide) (fun c268 => ?_) (fun c268 => (by exfalso; exact c268 ((lg_cmp_eq _ _).mpr (by rw [hb0]; rfl))))
              refine lv_goto (tgt := 514) hx hb dL_law_273 (by decide) ?_
              exact l514 _ (keepS g (zs (4 * j + 1))) _ 0 _ A9 (K9 + (gTape g).length) (c9 + (gTape g).length) (Nat.lt_succ_self _) (by rw [hte]; exact hRI.keep _) (hSI.keep hRI _) (fun z => absurd z (by omega)) _ _ _ _ _ hS ho2 hRC2 hRT2 (by rw [keepS_req]; omega) (by rw [keepS_req]; omega) (lv_sub hl [2, 3, 4, 5, 6] rfl)
          · refine z_callSW cx (j := 3) (m_X0_keep G l _ hl0 xa oo (zs (4 * j + 1)) v0 cs g (hB.ext (Ext.ofS hS)) hRC ho hr9.2 hus hSI.1 hSI.2.1 (mc := 50 * (gTape g).length + 200) (ms := ((116 + 2 * (gTape g).length) * (gTape g).length) + 150 * (gTape g).length + 2000) ⟨by omega, by omega⟩ (fun z => absurd (hrd.symm.trans z) (by decide)) (fun z => absurd (hrd.symm.trans z) (by decide))) (lw_SW q868 q869 q31 q870) (by decide +kernel) rfl (rest := []) rfl hl (Nat.le_of_ble_eq_true rfl) (by decide) (by omega) dL_law_221 hS (fun q h => by have := hS.1; rcases h with h | h; have := AC.own (hB.ext (Ext.ofS hS)) q h; omega; omega) (fun v221 H locs hp221 hz9 hk9 hS => ?_)
            obtain ⟨-, rfl, ho1, hRC1⟩ := hp221.resolve_left (fun z => absurd (hrd.symm.trans z.1) (by decide))
            have hRT1 := hRT.overW cx.kk ho hk9
            clear hk9 hz9
            obtain ⟨vs2, hx2⟩ := hRT1.obx
            refine lv_istore (lv' := [(5, .int (iI 1)), (0, .ref b), (1, .ref xa), (2, .ref mx), (3, .ref oo), (4, .int (iI ((4 * j : Nat) : Int)))]) hx hb dL_law_224 hl (by decide) rfl (fun ls hl => ?_)
            refine lv_aload_n hx hb dL_law_226 rfl (lv_at hl 3 rfl) ?_
            refine lv_aload_n hx hb dL_law_227 rfl (lv_at hl 1 rfl) ?_
            refine lv_iload hx hb dL_law_228 (lv_at hl 5 rfl) ?_
            refine lv_iconst (v := iI (1)) hx hb dL_law_230 rfl ?_
            refine z_iadd cx (z := ((4 * j + 1 : Nat) : Int)) dL_law_231 (by omega) ?_
            refine z_sld cx hX hbl hzs hS (4 * j + 1) (by omega) dL_law_232 ?_
            refine z_callV cx (j := 1) (m_X4_keep G l _ mx (zs (4 * j + 1)) thr g hRT1 hr9.2 hus (mc := keepC g (zs (4 * j + 1))) (ms := keepM g (zs (4 * j + 1))) (Nat.le_refl _) (Nat.le_refl _)) (lw_V q1286 q1287 q1288 q57 q1289) (zrecv cx hx2 rfl) (by decide +kernel) rfl (rest := []) rfl hl (Nat.le_of_ble_eq_true rfl) (by decide) (by omega) dL_law_233 hS (fun q h => by have := hS.1; have := AT.own (hB.ext (Ext.ofS hS)) q h; omega) (fun v233 H locs hp233 hz9 hk9 hS => ?_)
            obtain ⟨rfl, hRT2⟩ := hp233.2 hrd
            have hRC2 := hRC1.overT cx.kk hk9
            have ho2 := ho1.overT cx.kk hk9
            clear hk9 hz9
            obtain ⟨vs3, hx2⟩ := hRT2.obx
            refine lv_istore (lv' := [(6, .int (iI 0)), (5, .int (iI 1)), (0, .ref b), (1, .ref xa), (2, .ref mx), (3, .ref oo), (4, .int (iI ((4 * j : Nat) : Int)))]) hx hb dL_law_236 hl (by decide) rfl (fun ls hl => ?_)
            refine lv_aload_n hx hb dL_law_238 rfl (lv_at hl 4 rfl) ?_
            refine z_callV cx (j := 0) (m_X4_thrown G l _ mx 1 _ hRT2 (mc := 0) (ms := 0)) (lw_V q1183 q1184 q1185 q57 q1186) (zrecv cx hx2 rfl) (by decide +kernel) rfl (rest := []) rfl hl (Nat.le_of_ble_eq_true rfl) (by decide) (by omega) dL_law_239 hS (fun q h => Nat.le_trans hS.1 h) (fun v239 H locs hp239 hz9 hk9 hS => ?_)
            have hE9 := Ext.of hz9 hk9 (fun q h => h)
            have hx2 := hx2.ext hE9
            have ho2 := ho2.ext hE9
            subst hp239
            have hRC2 := hRC2.ext cx.kk.1 hE9
            have hRT2 := hRT2.ext hE9
            refine lv_iload hx hb dL_law_242 (lv_at hl 1 rfl) ?_
            refine z_icmp_eq cx (tgt := 249) dL_law_244 (by decide) (by omega) (fun c244 => ?_) (fun c244 => (by exfalso; exact c244 rfl))
            refine lv_iload hx hb dL_law_249 (lv_at hl 1 rfl) ?_
            refine z_if_ne cx (tgt := 273) dL_law_251 (by decide) (by omega) (fun c251 => ?_) (fun c251 => (by exfalso; exact absurd c251 (by decide)))
            refine lv_goto (tgt := 514) hx hb dL_law_273 (by decide) ?_
            exact l514 _ (rdS g) cs 1 v0 A9 K9 (c9 + (gTape g).length) (Nat.lt_succ_self _) (by rw [hte]; exact hRI.rd) (hSI.mono (Nat.le_succ j)) (fun z => absurd z (by omega)) _ _ _ _ _ hS ho2 hRC2 hRT2 (by show _ + uC cs (mrg (gReq g)) ≤ _; omega) (by show _ + uS cs (mrg (gReq g)) ≤ _; omega) (lv_sub hl [2, 3, 4, 5, 6] rfl)
        · rw [if_neg (by omega), Nat.add_zero] at hte
          rw [if_pos (by omega)] at hse
          rw [← hse] at hs1 hs2
          rw [h]
          obtain ⟨hb3, hb4⟩ := bC_le (T := T) (z := cZ kd (j + 1)) (c := c9 + (gTape g).length) (j := j + 1) (by omega) (by omega) (by omega)
          obtain ⟨q1, q2, q3⟩ := agn_cost hT64 hRI8 hn3
          have hca : agnC g ≤ U1 + 15 * (gTape g).length + 35 ∧ agnM g ≤ U2 + 165 * (gTape g).length + 780 := by
            rw [hU1, hU2]
            split
            · rename_i hz
              have := q3 (hz0 hz).1
              omega
            · omega
          clear q1 q2 q3 hz0
          obtain ⟨f1, f2, -⟩ := csO_le (T := mrg (gReq g)) (p0 := (zs (4 * j + 1))) (ts := gTs g) (gTs g).length cs hRC.flags
          refine z_swIn cx (tgt := 276) dL_law_39 (by decide) (by decide) rfl (by decide) ?_
          refine lv_aload_n hx hb dL_law_276 rfl (lv_at hl 1 rfl) ?_
          refine lv_aload_n hx hb dL_law_277 rfl (lv_at hl 0 rfl) ?_
          refine lv_iload hx hb dL_law_278 (lv_at hl 4 rfl) ?_
          refine lv_iconst (v := iI (1)) hx hb dL_law_280 rfl ?_
          refine z_iadd cx (z := ((4 * j + 1 : Nat) : Int)) dL_law_281 (by omega) ?_
          refine z_sld cx hX hbl hzs hS (4 * j + 1) (by omega) dL_law_282 ?_
          refine lv_aload_n hx hb dL_law_283 rfl (lv_at hl 3 rfl) ?_
          rcases (show rdOk g (zs (4 * j + 1)) = true ∨ rdOk g (zs (4 * j + 1)) = false by cases rdOk g (zs (4 * j + 1)) <;> simp) with hrd | hrd
          · refine z_callSW cx (j := 3) (m_X0_again G l _ hl0 xa oo (zs (4 * j + 1)) v0 cs g (hB.ext (Ext.ofS hS)) hRC ho hr9.2 hus (mc := uC cs (mrg (gReq g)) - uC (csO (mrg (gReq g)) (zs (4 * j + 1)) (gTs g) (gTs g).length cs) (mrg (gReq g)) + 30 * (gTape g).length + 100) (ms := uS cs (mrg (gReq g)) - uS (csO (mrg (gReq g)) (zs (4 * j + 1)) (gTs g) (gTs g).length cs) (mrg (gReq g)) + ((116 + 2 * (gTape g).length) * (gTape g).length) + 100 * (gTape g).length + 1200) ⟨by omega, by omega⟩ (fun _ => by omega) (fun _ => by omega)) (lw_SW q1086 q1087 q31 q1088) (by decide +kernel) rfl (rest := []) rfl hl (Nat.le_of_ble_eq_true rfl) (by decide) (by omega) dL_law_284 hS (fun q h => by have := hS.1; rcases h with h | h; have := AC.own (hB.ext (Ext.ofS hS)) q h; omega; omega) (fun v284 H locs hp284 hz9 hk9 hS => ?_)
            obtain ⟨-, rfl, ho1, hRC1⟩ := hp284.resolve_right (fun z => absurd (hrd.symm.trans z.1) (by decide))
            have hRT1 := hRT.overW cx.kk ho hk9
            clear hk9 hz9
            obtain ⟨vs2, hx2⟩ := hRT1.obx
            refine lv_istore (lv' := [(5, .int (iI 0)), (0, .ref b), (1, .ref xa), (2, .ref mx), (3, .ref oo), (4, .int (iI ((4 * j : Nat) : Int)))]) hx hb dL_law_287 hl (by decide) rfl (fun ls hl => ?_)
            refine lv_aload_n hx hb dL_law_289 rfl (lv_at hl 3 rfl) ?_
            refine lv_aload_n hx hb dL_law_290 rfl (lv_at hl 1 rfl) ?_
            refine lv_iload hx hb dL_law_291 (lv_at hl 5 rfl) ?_
            refine lv_iconst (v := iI (1)) hx hb dL_law_293 rfl ?_
            refine z_iadd cx (z := ((4 * j + 1 : Nat) : Int)) dL_law_294 (by omega) ?_
            refine z_sld cx hX hbl hzs hS (4 * j + 1) (by omega) dL_law_295 ?_
            refine z_callV cx (j := 1) (m_X4_again G l _ mx (zs (4 * j + 1)) thr g hRT1 hr9.2 hus (mc := agnC g) (ms := agnM g) (Nat.le_refl _) (Nat.le_refl _)) (lw_V q1379 q1380 q1381 q57 q1382) (zrecv cx hx2 rfl) (by decide +kernel) rfl (rest := []) rfl hl (Nat.le_of_ble_eq_true rfl) (by decide) (by omega) dL_law_296 hS (fun q h => by have := hS.1; have := AT.own (hB.ext (Ext.ofS hS)) q h; omega) (fun v296 H locs hp296 hz9 hk9 hS => ?_)
            obtain ⟨rfl, hRT2⟩ := hp296.1 hrd
            have hRC2 := hRC1.overT cx.kk hk9
            have ho2 := ho1.overT cx.kk hk9
            clear hk9 hz9
            obtain ⟨vs3, hx2⟩ := hRT2.obx
            refine lv_istore (lv' := [(6, .int (iI (b2i (agnA g (zs (4 * j + 1)))))), (5, .int (iI 0)), (0, .ref b), (1, .ref xa), (2, .ref mx), (3, .ref oo), (4, .int (iI ((4 * j : Nat) : Int)))]) hx hb dL_law_299 hl (by decide) rfl (fun ls hl => ?_)
            refine lv_aload_n hx hb dL_law_301 rfl (lv_at hl 4 rfl) ?_
            refine z_callV cx (j := 0) (m_X4_thrown G l _ mx 0 _ hRT2 (mc := 0) (ms := 0)) (lw_V q1183 q1184 q1185 q57 q1186) (zrecv cx hx2 rfl) (by decide +kernel) rfl (rest := []) rfl hl (Nat.le_of_ble_eq_true rfl) (by decide) (by omega) dL_law_302 hS (fun q h => Nat.le_trans hS.1 h) (fun v302 H locs hp302 hz9 hk9 hS => ?_)
            have hE9 := Ext.of hz9 hk9 (fun q h => h)
            have hx2 := hx2.ext hE9
            have ho2 := ho2.ext hE9
            subst hp302
            have hRC2 := hRC2.ext cx.kk.1 hE9
            have hRT2 := hRT2.ext hE9
            have hrb := b2i_rg (agnA g (zs (4 * j + 1)))
            refine lv_iload hx hb dL_law_305 (lv_at hl 1 rfl) ?_
            refine z_icmp_eq cx (tgt := 312) dL_law_307 (by decide) (by omega) (fun c307 => ?_) (fun c307 => (by exfalso; exact c307 rfl))
            refine lv_iload hx hb dL_law_312 (lv_at hl 1 rfl) ?_
            refine z_if_ne cx (tgt := 336) dL_law_314 (by decide) (by omega) (fun c314 => (by exfalso; exact c314 rfl)) (fun c314 => ?_)
            refine lv_aload_n hx hb dL_law_317 rfl (lv_at hl 5 rfl) ?_
            refine lv_iconst (v := iI (0)) hx hb dL_law_318 rfl ?_
            refine z_lald cx ho2 dL_law_319 ?_
            refine lv_iload hx hb dL_law_320 (lv_at hl 0 rfl) ?_
            refine z_if_eq cx (tgt := 329) dL_law_322 (by decide) (by omega) (fun c322 => ?_) (fun c322 => ?_)
            · have hb0 := b2i_eq0 c322
              refine lv_lconst (v := 0) hx hb dL_law_329 (by decide) ?_
              refine W.lcmp hx hb dL_law_330 ?_
              refine lv_if_eq (tgt := 336) hx hb dL_law_331 (by decide) (fun c331 => ?_) (fun c331 => (by exfalso; exact c331 ((lg_cmp_eq _ _).mpr (by rw [hb0]; rfl))))
              refine lv_goto (tgt := 514) hx hb dL_law_336 (by decide) ?_
              exact l514 _ (agnS g (zs (4 * j + 1))) _ 0 _ A9 K9 (c9 + (gTape g).length) (Nat.lt_succ_self _) (by rw [hte]; exact hRI.agn _) (hSI.agn _) (fun z => absurd z (by omega)) _ _ _ _ _ hS ho2 hRC2 hRT2 (by rw [agnS_req]; omega) (by rw [agnS_req]; omega) (lv_sub hl [2, 3, 4, 5, 6] rfl)
            · have hb0 := b2i_ne0 c322
              refine lv_lconst (v := 1) hx hb dL_law_325 (by decide) ?_
              refine lv_goto (tgt := 330) hx hb dL_law_326 (by decide) ?_
              refine W.lcmp hx hb dL_law_330 ?_
              refine lv_if_eq (tgt := 336) hx hb dL_law_331 (by decide) (fun c331 => ?_) (fun c331 => (by exfalso; exact c331 ((lg_cmp_eq _ _).mpr (by rw [hb0]; rfl))))
              refine lv_goto (tgt := 514) hx hb dL_law_336 (by decide) ?_
              exact l514 _ (agnS g (zs (4 * j + 1))) _ 0 _ A9 K9 (c9 + (gTape g).length) (Nat.lt_succ_self _) (by rw [hte]; exact hRI.agn _) (hSI.agn _) (fun z => absurd z (by omega)) _ _ _ _ _ hS ho2 hRC2 hRT2 (by rw [agnS_req]; omega) (by rw [agnS_req]; omega) (lv_sub hl [2, 3, 4, 5, 6] rfl)
          · refine z_callSW cx (j := 3) (m_X0_again G l _ hl0 xa oo (zs (4 * j + 1)) v0 cs g (hB.ext (Ext.ofS hS)) hRC ho hr9.2 hus (mc := 30 * (gTape g).length + 100) (ms := ((116 + 2 * (gTape g).length) * (gTape g).length) + 100 * (gTape g).length + 1200) ⟨by omega, by omega⟩ (fun z => absurd (hrd.symm.trans z) (by decide)) (fun z => absurd (hrd.symm.trans z) (by decide))) (lw_SW q1086 q1087 q31 q1088) (by decide +kernel) rfl (rest := []) rfl hl (Nat.le_of_ble_eq_true rfl) (by decide) (by omega) dL_law_284 hS (fun q h => by have := hS.1; rcases h with h | h; have := AC.own (hB.ext (Ext.ofS hS)) q h; omega; omega) (fun v284 H locs hp284 hz9 hk9 hS => ?_)
            obtain ⟨-, rfl, ho1, hRC1⟩ := hp284.resolve_left (fun z => absurd (hrd.symm.trans z.1) (by decide))
            have hRT1 := hRT.overW cx.kk ho hk9
            clear hk9 hz9
            obtain ⟨vs2, hx2⟩ := hRT1.obx
            refine lv_istore (lv' := [(5, .int (iI 1)), (0, .ref b), (1, .ref xa), (2, .ref mx), (3, .ref oo), (4, .int (iI ((4 * j : Nat) : Int)))]) hx hb dL_law_287 hl (by decide) rfl (fun ls hl => ?_)
            refine lv_aload_n hx hb dL_law_289 rfl (lv_at hl 3 rfl) ?_
            refine lv_aload_n hx hb dL_law_290 rfl (lv_at hl 1 rfl) ?_
            refine lv_iload hx hb dL_law_291 (lv_at hl 5 rfl) ?_
            refine lv_iconst (v := iI (1)) hx hb dL_law_293 rfl ?_
            refine z_iadd cx (z := ((4 * j + 1 : Nat) : Int)) dL_law_294 (by omega) ?_
            refine z_sld cx hX hbl hzs hS (4 * j + 1) (by omega) dL_law_295 ?_
            refine z_callV cx (j := 1) (m_X4_again G l _ mx (zs (4 * j + 1)) thr g hRT1 hr9.2 hus (mc := agnC g) (ms := agnM g) (Nat.le_refl _) (Nat.le_refl _)) (lw_V q1379 q1380 q1381 q57 q1382) (zrecv cx hx2 rfl) (by decide +kernel) rfl (rest := []) rfl hl (Nat.le_of_ble_eq_true rfl) (by decide) (by omega) dL_law_296 hS (fun q h => by have := hS.1; have := AT.own (hB.ext (Ext.ofS hS)) q h; omega) (fun v296 H locs hp296 hz9 hk9 hS => ?_)
            obtain ⟨rfl, hRT2⟩ := hp296.2 hrd
            have hRC2 := hRC1.overT cx.kk hk9
            have ho2 := ho1.overT cx.kk hk9
            clear hk9 hz9
            obtain ⟨vs3, hx2⟩ := hRT2.obx
            refine lv_istore (lv' := [(6, .int (iI 0)), (5, .int (iI 1)), (0, .ref b), (1, .ref xa), (2, .ref mx), (3, .ref oo), (4, .int (iI ((4 * j : Nat) : Int)))]) hx hb dL_law_299 hl (by decide) rfl (fun ls hl => ?_)
            refine lv_aload_n hx hb dL_law_301 rfl (lv_at hl 4 rfl) ?_
            refine z_callV cx (j := 0) (m_X4_thrown G l _ mx 1 _ hRT2 (mc := 0) (ms := 0)) (lw_V q1183 q1184 q1185 q57 q1186) (zrecv cx hx2 rfl) (by decide +kernel) rfl (rest := []) rfl hl (Nat.le_of_ble_eq_true rfl) (by decide) (by omega) dL_law_302 hS (fun q h => Nat.le_trans hS.1 h) (fun v302 H locs hp302 hz9 hk9 hS => ?_)
            have hE9 := Ext.of hz9 hk9 (fun q h => h)
            have hx2 := hx2.ext hE9
            have ho2 := ho2.ext hE9
            subst hp302
            have hRC2 := hRC2.ext cx.kk.1 hE9
            have hRT2 := hRT2.ext hE9
            refine lv_iload hx hb dL_law_305 (lv_at hl 1 rfl) ?_
            refine z_icmp_eq cx (tgt := 312) dL_law_307 (by decide) (by omega) (fun c307 => ?_) (fun c307 => (by exfalso; exact c307 rfl))
            refine lv_iload hx hb dL_law_312 (lv_at hl 1 rfl) ?_
            refine z_if_ne cx (tgt := 336) dL_law_314 (by decide) (by omega) (fun c314 => ?_) (fun c314 => (by exfalso; exact absurd c314 (by decide)))
            refine lv_goto (tgt := 514) hx hb dL_law_336 (by decide) ?_
            exact l514 _ (rdS g) cs 1 v0 A9 K9 (c9 + (gTape g).length) (Nat.lt_succ_self _) (by rw [hte]; exact hRI.rd) (hSI.mono (Nat.le_succ j)) (fun z => absurd z (by omega)) _ _ _ _ _ hS ho2 hRC2 hRT2 (by show _ + uC cs (mrg (gReq g)) ≤ _; omega) (by show _ + uS cs (mrg (gReq g)) ≤ _; omega) (lv_sub hl [2, 3, 4, 5, 6] rfl)
        · rw [if_neg (by omega), Nat.add_zero] at hte
          rw [if_neg (by omega), Nat.add_zero] at hse
          rw [h]
          obtain ⟨vs1, hx1⟩ := hRC.obx
          obtain ⟨vs2, hx2⟩ := hRT.obx
          refine z_swIn cx (tgt := 339) dL_law_39 (by decide) (by decide) rfl (by decide) ?_
          refine lv_aload_n hx hb dL_law_339 rfl (lv_at hl 1 rfl) ?_
          refine z_callV cx (j := 0) (m_X1_fault G l _ xa cs g hRC (mc := 0) (ms := 0)) (lw_V q702 q703 q704 q32 q705) (zrecv cx hx1 rfl) (by decide +kernel) rfl (rest := []) rfl hl (Nat.le_of_ble_eq_true rfl) (by decide) (by omega) dL_law_340 hS (fun q h => Nat.le_trans hS.1 h) (fun v340 H locs hp340 hz9 hk9 hS => ?_)
          have hE9 := Ext.of hz9 hk9 (fun q h => h)
          have ho := ho.ext hE9
          have hx1 := hx1.ext hE9
          have hx2 := hx2.ext hE9
          subst hp340
          have hRC1 := hRC.ext cx.kk.1 hE9
          have hRT1 := hRT.ext hE9
          refine lv_aload_n hx hb dL_law_343 rfl (lv_at hl 2 rfl) ?_
          refine z_callV cx (j := 0) (m_X4_fault G l _ mx thr g hRT1 (mc := 0) (ms := 0)) (lw_V q1383 q1384 q1385 q57 q1386) (zrecv cx hx2 rfl) (by decide +kernel) rfl (rest := [.int (iI (gFault g))]) rfl hl (Nat.le_of_ble_eq_true rfl) (by decide) (by omega) dL_law_344 hS (fun q h => by have := hS.1; have := AT.own (hB.ext (Ext.ofS hS)) q h; omega) (fun v344 H locs hp344 hz9 hk9 hS => ?_)
          obtain ⟨rfl, hRT2⟩ := hp344
          have hRC2 := hRC1.overT cx.kk hk9
          have ho2 := ho.overT cx.kk hk9
          clear hk9 hz9
          refine z_icmp_eq cx (tgt := 514) dL_law_347 (by decide) (by omega) (fun c347 => ?_) (fun c347 => (by exfalso; exact c347 rfl))
          exact l514 _ g cs 0 v0 A9 K9 c9 (Nat.lt_succ_self _) (by rw [hte]; exact hRI) (hSI.mono (Nat.le_succ j)) (fun z => hz0 (by omega)) _ _ _ _ _ hS ho2 hRC2 hRT2 (by rw [hse]; clear hz0; omega) (by rw [hse]; clear hz0; omega) (lv_sub hl [0, 1, 2, 3, 4] rfl)
        · rw [if_neg (by omega), Nat.add_zero] at hte
          rw [if_neg (by omega), Nat.add_zero] at hse
          rw [h]
          obtain ⟨vs1, hx1⟩ := hRC.obx
          refine z_swIn cx (tgt := 352) dL_law_39 (by decide) (by decide) rfl (by decide) ?_
          refine lv_aload_n hx hb dL_law_352 rfl (lv_at hl 1 rfl) ?_
          refine lv_aload_n hx hb dL_law_353 rfl (lv_at hl 0 rfl) ?_
          refine lv_iload hx hb dL_law_354 (lv_at hl 4 rfl) ?_
          refine lv_iconst (v := iI (1)) hx hb dL_law_356 rfl ?_
          refine z_iadd cx (z := ((4 * j + 1 : Nat) : Int)) dL_law_357 (by omega) ?_
          refine z_sld cx hX hbl hzs hS (4 * j + 1) (by omega) dL_law_358 ?_
          refine z_callV cx (j := 1) (m_X1_purge G l _ xa (zs (4 * j + 1)) cs g (hB.ext (Ext.ofS hS)) hRC hr9.2 (mc := 0) (ms := 0)) (lw_V q706 q707 q708 q32 q709) (zrecv cx hx1 rfl) (by decide +kernel) rfl (rest := []) rfl hl (Nat.le_of_ble_eq_true rfl) (by decide) (by omega) dL_law_359 hS (fun q h => by have := hS.1; have := AC.own (hB.ext (Ext.ofS hS)) q h; omega) (fun v359 H locs hp359 hz9 hk9 hS => ?_)
          obtain ⟨rfl, hRC1⟩ := hp359
          have hRT1 := hRT.overC cx.kk hk9
          have ho1 := ho.overC cx.kk hk9
          clear hk9 hz9
          obtain ⟨vs2, hx2⟩ := hRT1.obx
          refine lv_aload_n hx hb dL_law_362 rfl (lv_at hl 2 rfl) ?_
          refine lv_aload_n hx hb dL_law_363 rfl (lv_at hl 0 rfl) ?_
          refine lv_iload hx hb dL_law_364 (lv_at hl 4 rfl) ?_
          refine lv_iconst (v := iI (1)) hx hb dL_law_366 rfl ?_
          refine z_iadd cx (z := ((4 * j + 1 : Nat) : Int)) dL_law_367 (by omega) ?_
          refine z_sld cx hX hbl hzs hS (4 * j + 1) (by omega) dL_law_368 ?_
          refine z_callV cx (j := 1) (m_X4_purge G l _ mx (zs (4 * j + 1)) thr g hRT1 hr9.2 (mc := 0) (ms := 0)) (lw_V q1387 q1388 q1389 q57 q1390) (zrecv cx hx2 rfl) (by decide +kernel) rfl (rest := [.int (iI (((gTs g).length - ((gTs g).filter (fun t => decide (tPath t ≠ (zs (4 * j + 1))))).length : Nat) : Int))]) rfl hl (Nat.le_of_ble_eq_true rfl) (by decide) (by omega) dL_law_369 hS (fun q h => by have := hS.1; have := AT.own (hB.ext (Ext.ofS hS)) q h; omega) (fun v369 H locs hp369 hz9 hk9 hS => ?_)
          obtain ⟨rfl, hRT2⟩ := hp369
          have hRC2 := hRC1.overT cx.kk hk9
          have ho2 := ho1.overT cx.kk hk9
          clear hk9 hz9
          refine z_icmp_eq cx (tgt := 514) dL_law_372 (by decide) (by omega) (fun c372 => ?_) (fun c372 => (by exfalso; exact c372 rfl))
          exact l514 _ _ cs 0 v0 A9 K9 c9 (Nat.lt_succ_self _) (by rw [hte]; exact hRI.filter _) ((hSI.mono (Nat.le_succ j)).filter _) (fun z => ⟨by show (gTs g).filter _ = []; rw [(hz0 (by omega)).1]; rfl, (hz0 (by omega)).2⟩) _ _ _ _ _ hS ho2 hRC2 hRT2 (by rw [hse]; clear hz0; show _ + uC cs (mrg (gReq g)) ≤ _; omega) (by rw [hse]; clear hz0; show _ + uS cs (mrg (gReq g)) ≤ _; omega) (lv_sub hl [0, 1, 2, 3, 4] rfl)
        · rw [if_neg (by omega), Nat.add_zero] at hte
          rw [if_neg (by omega), Nat.add_zero] at hse
          rw [h]
          refine z_swIn cx (tgt := 377) dL_law_39 (by decide) (by decide) rfl (by decide) ?_
          refine lv_aload_n hx hb dL_law_377 rfl (lv_at hl 1 rfl) ?_
          refine lv_aload_n hx hb dL_law_378 rfl (lv_at hl 0 rfl) ?_
          refine lv_iload hx hb dL_law_379 (lv_at hl 4 rfl) ?_
          refine lv_iconst (v := iI (1)) hx hb dL_law_381 rfl ?_
          refine z_iadd cx (z := ((4 * j + 1 : Nat) : Int)) dL_law_382 (by omega) ?_
          refine z_sld cx hX hbl hzs hS (4 * j + 1) (by omega) dL_law_383 ?_
          refine lv_aload_n hx hb dL_law_384 rfl (lv_at hl 3 rfl) ?_
          refine z_callSW cx (j := 3) (m_X0_pass G l _ hl0 xa oo (zs (4 * j + 1)) v0 cs g (hB.ext (Ext.ofS hS)) hRC ho hr9.2 (mc := 1) (ms := 6) (Nat.le_refl _) (Nat.le_refl _)) (lw_SW q1093 q1094 q31 q1095) (by decide +kernel) rfl (rest := []) rfl hl (Nat.le_of_ble_eq_true rfl) (by decide) (by omega) dL_law_385 hS (fun q h => by have := hS.1; rcases h with h | h; have := AC.own (hB.ext (Ext.ofS hS)) q h; omega; omega) (fun v385 H locs hp385 hz9 hk9 hS => ?_)
          have hRT1 := hRT.overW cx.kk ho hk9
          clear hk9 hz9
          obtain ⟨vs2, hx2⟩ := hRT1.obx
          rcases hp385 with ⟨hrd, rfl, ho1, hRC1⟩ | ⟨hrd, rfl, ho1, hRC1⟩
          · refine lv_istore (lv' := [(5, .int (iI 0)), (0, .ref b), (1, .ref xa), (2, .ref mx), (3, .ref oo), (4, .int (iI ((4 * j : Nat) : Int)))]) hx hb dL_law_388 hl (by decide) rfl (fun ls hl => ?_)
            refine lv_aload_n hx hb dL_law_390 rfl (lv_at hl 3 rfl) ?_
            refine lv_aload_n hx hb dL_law_391 rfl (lv_at hl 1 rfl) ?_
            refine lv_iload hx hb dL_law_392 (lv_at hl 5 rfl) ?_
            refine lv_iconst (v := iI (1)) hx hb dL_law_394 rfl ?_
            refine z_iadd cx (z := ((4 * j + 1 : Nat) : Int)) dL_law_395 (by omega) ?_
            refine z_sld cx hX hbl hzs hS (4 * j + 1) (by omega) dL_law_396 ?_
            refine z_callV cx (j := 1) (m_X4_pass G l _ mx (zs (4 * j + 1)) thr g hRT1 hr9.2 (mc := 0) (ms := 0)) (lw_V q1391 q1392 q1393 q57 q1394) (zrecv cx hx2 rfl) (by decide +kernel) rfl (rest := []) rfl hl (Nat.le_of_ble_eq_true rfl) (by decide) (by omega) dL_law_397 hS (fun q h => by have := hS.1; have := AT.own (hB.ext (Ext.ofS hS)) q h; omega) (fun v397 H locs hp397 hz9 hk9 hS => ?_)
            obtain ⟨rfl, hRT2⟩ := hp397.1 hrd
            have hRC2 := hRC1.overT cx.kk hk9
            have ho2 := ho1.overT cx.kk hk9
            clear hk9 hz9
            obtain ⟨vs3, hx2⟩ := hRT2.obx
            refine lv_istore (lv' := [(6, .int (iI (gTime g + (zs (4 * j + 1))))), (5, .int (iI 0)), (0, .ref b), (1, .ref xa), (2, .ref mx), (3, .ref oo), (4, .int (iI ((4 * j : Nat) : Int)))]) hx hb dL_law_400 hl (by decide) rfl (fun ls hl => ?_)
            refine lv_aload_n hx hb dL_law_402 rfl (lv_at hl 4 rfl) ?_
            refine z_callV cx (j := 0) (m_X4_thrown G l _ mx 0 _ hRT2 (mc := 0) (ms := 0)) (lw_V q1183 q1184 q1185 q57 q1186) (zrecv cx hx2 rfl) (by decide +kernel) rfl (rest := []) rfl hl (Nat.le_of_ble_eq_true rfl) (by decide) (by omega) dL_law_403 hS (fun q h => Nat.le_trans hS.1 h) (fun v403 H locs hp403 hz9 hk9 hS => ?_)
            have hE9 := Ext.of hz9 hk9 (fun q h => h)
            have hx2 := hx2.ext hE9
            have ho2 := ho2.ext hE9
            subst hp403
            have hRC2 := hRC2.ext cx.kk.1 hE9
            have hRT2 := hRT2.ext hE9
            refine lv_iload hx hb dL_law_406 (lv_at hl 1 rfl) ?_
            refine z_icmp_eq cx (tgt := 413) dL_law_408 (by decide) (by omega) (fun c408 => ?_) (fun c408 => (by exfalso; exact c408 rfl))
            refine lv_iload hx hb dL_law_413 (lv_at hl 1 rfl) ?_
            refine z_if_ne cx (tgt := 430) dL_law_415 (by decide) (by omega) (fun c415 => (by exfalso; exact c415 rfl)) (fun c415 => ?_)
            refine lv_aload_n hx hb dL_law_418 rfl (lv_at hl 5 rfl) ?_
            refine lv_iconst (v := iI (0)) hx hb dL_law_419 rfl ?_
            refine z_lald cx ho2 dL_law_420 ?_
            refine lv_iload hx hb dL_law_421 (lv_at hl 0 rfl) ?_
            refine lv_i2l (v := (iI (gTime g + (zs (4 * j + 1)))).toInt64) hx hb dL_law_423 rfl ?_
            refine W.lcmp hx hb dL_law_424 ?_
            refine lv_if_eq (tgt := 430) hx hb dL_law_425 (by decide) (fun c425 => ?_) (fun c425 => (by exfalso; exact c425 ((lg_cmp_eq _ _).mpr rfl)))
            refine lv_goto (tgt := 514) hx hb dL_law_430 (by decide) ?_
            exact l514 _ (gTape g, gFault g, gTime g + (zs (4 * j + 1)), gReq g, gTs g, gUse g) cs 0 _ A9 K9 c9 (Nat.lt_succ_self _) (by rw [hte]; exact hRI) (hSI.mono (Nat.le_succ j)) (fun z => hz0 (by omega)) _ _ _ _ _ hS ho2 hRC2 hRT2 (by rw [hse]; clear hz0; show _ + uC cs (mrg (gReq g)) ≤ _; omega) (by rw [hse]; clear hz0; show _ + uS cs (mrg (gReq g)) ≤ _; omega) (lv_sub hl [2, 3, 4, 5, 6] rfl)
          · refine lv_istore (lv' := [(5, .int (iI 1)), (0, .ref b), (1, .ref xa), (2, .ref mx), (3, .ref oo), (4, .int (iI ((4 * j : Nat) : Int)))]) hx hb dL_law_388 hl (by decide) rfl (fun ls hl => ?_)
            refine lv_aload_n hx hb dL_law_390 rfl (lv_at hl 3 rfl) ?_
            refine lv_aload_n hx hb dL_law_391 rfl (lv_at hl 1 rfl) ?_
            refine lv_iload hx hb dL_law_392 (lv_at hl 5 rfl) ?_
            refine lv_iconst (v := iI (1)) hx hb dL_law_394 rfl ?_
            refine z_iadd cx (z := ((4 * j + 1 : Nat) : Int)) dL_law_395 (by omega) ?_
            refine z_sld cx hX hbl hzs hS (4 * j + 1) (by omega) dL_law_396 ?_
            refine z_callV cx (j := 1) (m_X4_pass G l _ mx (zs (4 * j + 1)) thr g hRT1 hr9.2 (mc := 0) (ms := 0)) (lw_V q1391 q1392 q1393 q57 q1394) (zrecv cx hx2 rfl) (by decide +kernel) rfl (rest := []) rfl hl (Nat.le_of_ble_eq_true rfl) (by decide) (by omega) dL_law_397 hS (fun q h => by have := hS.1; have := AT.own (hB.ext (Ext.ofS hS)) q h; omega) (fun v397 H locs hp397 hz9 hk9 hS => ?_)
            obtain ⟨rfl, hRT2⟩ := hp397.2 hrd
            have hRC2 := hRC1.overT cx.kk hk9
            have ho2 := ho1.overT cx.kk hk9
            clear hk9 hz9
            obtain ⟨vs3, hx2⟩ := hRT2.obx
            refine lv_istore (lv' := [(6, .int (iI 0)), (5, .int (iI 1)), (0, .ref b), (1, .ref xa), (2, .ref mx), (3, .ref oo), (4, .int (iI ((4 * j : Nat) : Int)))]) hx hb dL_law_400 hl (by decide) rfl (fun ls hl => ?_)
            refine lv_aload_n hx hb dL_law_402 rfl (lv_at hl 4 rfl) ?_
            refine z_callV cx (j := 0) (m_X4_thrown G l _ mx 1 _ hRT2 (mc := 0) (ms := 0)) (lw_V q1183 q1184 q1185 q57 q1186) (zrecv cx hx2 rfl) (by decide +kernel) rfl (rest := []) rfl hl (Nat.le_of_ble_eq_true rfl) (by decide) (by omega) dL_law_403 hS (fun q h => Nat.le_trans hS.1 h) (fun v403 H locs hp403 hz9 hk9 hS => ?_)
            have hE9 := Ext.of hz9 hk9 (fun q h => h)
            have hx2 := hx2.ext hE9
            have ho2 := ho2.ext hE9
            subst hp403
            have hRC2 := hRC2.ext cx.kk.1 hE9
            have hRT2 := hRT2.ext hE9
            refine lv_iload hx hb dL_law_406 (lv_at hl 1 rfl) ?_
            refine z_icmp_eq cx (tgt := 413) dL_law_408 (by decide) (by omega) (fun c408 => ?_) (fun c408 => (by exfalso; exact c408 rfl))
            refine lv_iload hx hb dL_law_413 (lv_at hl 1 rfl) ?_
            refine z_if_ne cx (tgt := 430) dL_law_415 (by decide) (by omega) (fun c415 => ?_) (fun c415 => (by exfalso; exact absurd c415 (by decide)))
            refine lv_goto (tgt := 514) hx hb dL_law_430 (by decide) ?_
            exact l514 _ g cs 1 v0 A9 K9 c9 (Nat.lt_succ_self _) (by rw [hte]; exact hRI) (hSI.mono (Nat.le_succ j)) (fun z => hz0 (by omega)) _ _ _ _ _ hS ho2 hRC2 hRT2 (by rw [hse]; clear hz0; omega) (by rw [hse]; clear hz0; omega) (lv_sub hl [2, 3, 4, 5, 6] rfl)
        · rw [if_neg (by omega), Nat.add_zero] at hte
          rw [if_neg (by omega), Nat.add_zero] at hse
          rw [h]
          refine z_swIn cx (tgt := 433) dL_law_39 (by decide) (by decide) rfl (by decide) ?_
          refine lv_aload_n hx hb dL_law_433 rfl (lv_at hl 1 rfl) ?_
          refine lv_aload_n hx hb dL_law_434 rfl (lv_at hl 0 rfl) ?_
          refine lv_iload hx hb dL_law_435 (lv_at hl 4 rfl) ?_
          refine lv_iconst (v := iI (1)) hx hb dL_law_437 rfl ?_
          refine z_iadd cx (z := ((4 * j + 1 : Nat) : Int)) dL_law_438 (by omega) ?_
          refine z_sld cx hX hbl hzs hS (4 * j + 1) (by omega) dL_law_439 ?_
          refine lv_aload_n hx hb dL_law_440 rfl (lv_at hl 0 rfl) ?_
          refine lv_iload hx hb dL_law_441 (lv_at hl 4 rfl) ?_
          refine lv_iconst (v := iI (2)) hx hb dL_law_443 rfl ?_
          refine z_iadd cx (z := ((4 * j + 2 : Nat) : Int)) dL_law_444 (by omega) ?_
          refine z_sld cx hX hbl hzs hS (4 * j + 2) (by omega) dL_law_445 ?_
          refine lv_aload_n hx hb dL_law_446 rfl (lv_at hl 3 rfl) ?_
          refine z_callSW cx (j := 4) (m_X0_thing G l _ hl0 xa oo (zs (4 * j + 1)) (zs (4 * j + 2)) v0 cs g (hB.ext (Ext.ofS hS)) hRC ho hr9.2 hr8.2 (mc := 1) (ms := 6) (Nat.le_refl _) (Nat.le_refl _)) (lw_SW q1103 q1104 q31 q1105) (by decide +kernel) rfl (rest := []) rfl hl (Nat.le_of_ble_eq_true rfl) (by decide) (by omega) dL_law_447 hS (fun q h => by have := hS.1; rcases h with h | h; have := AC.own (hB.ext (Ext.ofS hS)) q h; omega; omega) (fun v447 H locs hp447 hz9 hk9 hS => ?_)
          have hRT1 := hRT.overW cx.kk ho hk9
          clear hk9 hz9
          obtain ⟨vs2, hx2⟩ := hRT1.obx
          rcases hp447 with ⟨y9, hrd, rfl, ho1, hRC1⟩ | ⟨hrd, rfl, ho1, hRC1⟩
          · refine lv_istore (lv' := [(5, .int (iI 0)), (0, .ref b), (1, .ref xa), (2, .ref mx), (3, .ref oo), (4, .int (iI ((4 * j : Nat) : Int)))]) hx hb dL_law_450 hl (by decide) rfl (fun ls hl => ?_)
            refine lv_aload_n hx hb dL_law_452 rfl (lv_at hl 3 rfl) ?_
            refine lv_aload_n hx hb dL_law_453 rfl (lv_at hl 1 rfl) ?_
            refine lv_iload hx hb dL_law_454 (lv_at hl 5 rfl) ?_
            refine lv_iconst (v := iI (1)) hx hb dL_law_456 rfl ?_
            refine z_iadd cx (z := ((4 * j + 1 : Nat) : Int)) dL_law_457 (by omega) ?_
            refine z_sld cx hX hbl hzs hS (4 * j + 1) (by omega) dL_law_458 ?_
            refine lv_aload_n hx hb dL_law_459 rfl (lv_at hl 1 rfl) ?_
            refine lv_iload hx hb dL_law_460 (lv_at hl 5 rfl) ?_
            refine lv_iconst (v := iI (2)) hx hb dL_law_462 rfl ?_
            refine z_iadd cx (z := ((4 * j + 2 : Nat) : Int)) dL_law_463 (by omega) ?_
            refine z_sld cx hX hbl hzs hS (4 * j + 2) (by omega) dL_law_464 ?_
            refine z_callV cx (j := 2) (m_X4_thing G l _ mx (zs (4 * j + 1)) (zs (4 * j + 2)) thr g hRT1 hr9.2 hr8.2 (mc := 0) (ms := 0)) (lw_V q1397 q1398 q1399 q57 q1400) (zrecv cx hx2 rfl) (by decide +kernel) rfl (rest := []) rfl hl (Nat.le_of_ble_eq_true rfl) (by decide) (by omega) dL_law_465 hS (fun q h => by have := hS.1; have := AT.own (hB.ext (Ext.ofS hS)) q h; omega) (fun v465 H locs hp465 hz9 hk9 hS => ?_)
            rw [hrd] at hp465; obtain ⟨hRT2, rfl⟩ := hp465
            have hRT2 : RepT G H mx 0 g := hRT2
            have hRC2 := hRC1.overT cx.kk hk9
            have ho2 := ho1.overT cx.kk hk9
            clear hk9 hz9
            obtain ⟨vs3, hx2⟩ := hRT2.obx
            refine lv_istore (lv' := [(6, .int (iI y9)), (5, .int (iI 0)), (0, .ref b), (1, .ref xa), (2, .ref mx), (3, .ref oo), (4, .int (iI ((4 * j : Nat) : Int)))]) hx hb dL_law_468 hl (by decide) rfl (fun ls hl => ?_)
            refine lv_aload_n hx hb dL_law_470 rfl (lv_at hl 4 rfl) ?_
            refine z_callV cx (j := 0) (m_X4_thrown G l _ mx 0 _ hRT2 (mc := 0) (ms := 0)) (lw_V q1183 q1184 q1185 q57 q1186) (zrecv cx hx2 rfl) (by decide +kernel) rfl (rest := []) rfl hl (Nat.le_of_ble_eq_true rfl) (by decide) (by omega) dL_law_471 hS (fun q h => Nat.le_trans hS.1 h) (fun v471 H locs hp471 hz9 hk9 hS => ?_)
            have hE9 := Ext.of hz9 hk9 (fun q h => h)
            have hx2 := hx2.ext hE9
            have ho2 := ho2.ext hE9
            subst hp471
            have hRC2 := hRC2.ext cx.kk.1 hE9
            have hRT2 := hRT2.ext hE9
            refine lv_iload hx hb dL_law_474 (lv_at hl 1 rfl) ?_
            refine z_icmp_eq cx (tgt := 481) dL_law_476 (by decide) (by omega) (fun c476 => ?_) (fun c476 => (by exfalso; exact c476 rfl))
            refine lv_iload hx hb dL_law_481 (lv_at hl 1 rfl) ?_
            refine z_if_ne cx (tgt := 498) dL_law_483 (by decide) (by omega) (fun c483 => (by exfalso; exact c483 rfl)) (fun c483 => ?_)
            refine lv_aload_n hx hb dL_law_486 rfl (lv_at hl 5 rfl) ?_
            refine lv_iconst (v := iI (0)) hx hb dL_law_487 rfl ?_
            refine z_lald cx ho2 dL_law_488 ?_
            refine lv_iload hx hb dL_law_489 (lv_at hl 0 rfl) ?_
            refine lv_i2l (v := (iI y9).toInt64) hx hb dL_law_491 rfl ?_
            refine W.lcmp hx hb dL_law_492 ?_
            refine lv_if_eq (tgt := 498) hx hb dL_law_493 (by decide) (fun c493 => ?_) (fun c493 => (by exfalso; exact c493 ((lg_cmp_eq _ _).mpr rfl)))
            refine lv_goto (tgt := 514) hx hb dL_law_498 (by decide) ?_
            exact l514 _ g cs 0 _ A9 K9 c9 (Nat.lt_succ_self _) (by rw [hte]; exact hRI) (hSI.mono (Nat.le_succ j)) (fun z => hz0 (by omega)) _ _ _ _ _ hS ho2 hRC2 hRT2 (by rw [hse]; clear hz0; omega) (by rw [hse]; clear hz0; omega) (lv_sub hl [2, 3, 4, 5, 6] rfl)
          · refine lv_istore (lv' := [(5, .int (iI 1)), (0, .ref b), (1, .ref xa), (2, .ref mx), (3, .ref oo), (4, .int (iI ((4 * j : Nat) : Int)))]) hx hb dL_law_450 hl (by decide) rfl (fun ls hl => ?_)
            refine lv_aload_n hx hb dL_law_452 rfl (lv_at hl 3 rfl) ?_
            refine lv_aload_n hx hb dL_law_453 rfl (lv_at hl 1 rfl) ?_
            refine lv_iload hx hb dL_law_454 (lv_at hl 5 rfl) ?_
            refine lv_iconst (v := iI (1)) hx hb dL_law_456 rfl ?_
            refine z_iadd cx (z := ((4 * j + 1 : Nat) : Int)) dL_law_457 (by omega) ?_
            refine z_sld cx hX hbl hzs hS (4 * j + 1) (by omega) dL_law_458 ?_
            refine lv_aload_n hx hb dL_law_459 rfl (lv_at hl 1 rfl) ?_
            refine lv_iload hx hb dL_law_460 (lv_at hl 5 rfl) ?_
            refine lv_iconst (v := iI (2)) hx hb dL_law_462 rfl ?_
            refine z_iadd cx (z := ((4 * j + 2 : Nat) : Int)) dL_law_463 (by omega) ?_
            refine z_sld cx hX hbl hzs hS (4 * j + 2) (by omega) dL_law_464 ?_
            refine z_callV cx (j := 2) (m_X4_thing G l _ mx (zs (4 * j + 1)) (zs (4 * j + 2)) thr g hRT1 hr9.2 hr8.2 (mc := 0) (ms := 0)) (lw_V q1397 q1398 q1399 q57 q1400) (zrecv cx hx2 rfl) (by decide +kernel) rfl (rest := []) rfl hl (Nat.le_of_ble_eq_true rfl) (by decide) (by omega) dL_law_465 hS (fun q h => by have := hS.1; have := AT.own (hB.ext (Ext.ofS hS)) q h; omega) (fun v465 H locs hp465 hz9 hk9 hS => ?_)
            rw [hrd] at hp465; obtain ⟨hRT2, rfl⟩ := hp465
            have hRT2 : RepT G H mx 1 g := hRT2
            have hRC2 := hRC1.overT cx.kk hk9
            have ho2 := ho1.overT cx.kk hk9
            clear hk9 hz9
            obtain ⟨vs3, hx2⟩ := hRT2.obx
            refine lv_istore (lv' := [(6, .int (iI 0)), (5, .int (iI 1)), (0, .ref b), (1, .ref xa), (2, .ref mx), (3, .ref oo), (4, .int (iI ((4 * j : Nat) : Int)))]) hx hb dL_law_468 hl (by decide) rfl (fun ls hl => ?_)
            refine lv_aload_n hx hb dL_law_470 rfl (lv_at hl 4 rfl) ?_
            refine z_callV cx (j := 0) (m_X4_thrown G l _ mx 1 _ hRT2 (mc := 0) (ms := 0)) (lw_V q1183 q1184 q1185 q57 q1186) (zrecv cx hx2 rfl) (by decide +kernel) rfl (rest := []) rfl hl (Nat.le_of_ble_eq_true rfl) (by decide) (by omega) dL_law_471 hS (fun q h => Nat.le_trans hS.1 h) (fun v471 H locs hp471 hz9 hk9 hS => ?_)
            have hE9 := Ext.of hz9 hk9 (fun q h => h)
            have hx2 := hx2.ext hE9
            have ho2 := ho2.ext hE9
            subst hp471
            have hRC2 := hRC2.ext cx.kk.1 hE9
            have hRT2 := hRT2.ext hE9
            refine lv_iload hx hb dL_law_474 (lv_at hl 1 rfl) ?_
            refine z_icmp_eq cx (tgt := 481) dL_law_476 (by decide) (by omega) (fun c476 => ?_) (fun c476 => (by exfalso; exact c476 rfl))
            refine lv_iload hx hb dL_law_481 (lv_at hl 1 rfl) ?_
            refine z_if_ne cx (tgt := 498) dL_law_483 (by decide) (by omega) (fun c483 => ?_) (fun c483 => (by exfalso; exact absurd c483 (by decide)))
            refine lv_goto (tgt := 514) hx hb dL_law_498 (by decide) ?_
            exact l514 _ g cs 1 v0 A9 K9 c9 (Nat.lt_succ_self _) (by rw [hte]; exact hRI) (hSI.mono (Nat.le_succ j)) (fun z => hz0 (by omega)) _ _ _ _ _ hS ho2 hRC2 hRT2 (by rw [hse]; clear hz0; omega) (by rw [hse]; clear hz0; omega) (lv_sub hl [2, 3, 4, 5, 6] rfl)
        · rw [if_neg (by omega), Nat.add_zero] at hte
          rw [if_neg (by omega), Nat.add_zero] at hse
          rw [h]
          obtain ⟨vs1, hx1⟩ := hRC.obx
          obtain ⟨vs2, hx2⟩ := hRT.obx
          refine z_swIn cx (tgt := 501) dL_law_39 (by decide) (by decide) rfl (by decide) ?_
          refine lv_aload_n hx hb dL_law_501 rfl (lv_at hl 1 rfl) ?_
          refine z_callV cx (j := 0) (m_X1_things G l _ xa cs g hRC (mc := 0) (ms := 0)) (lw_V q714 q715 q716 q32 q717) (zrecv cx hx1 rfl) (by decide +kernel) rfl (rest := []) rfl hl (Nat.le_of_ble_eq_true rfl) (by decide) (by omega) dL_law_502 hS (fun q h => Nat.le_trans hS.1 h) (fun v502 H locs hp502 hz9 hk9 hS => ?_)
          have hE9 := Ext.of hz9 hk9 (fun q h => h)
          have ho := ho.ext hE9
          have hx1 := hx1.ext hE9
          have hx2 := hx2.ext hE9
          subst hp502
          have hRC1 := hRC.ext cx.kk.1 hE9
          have hRT1 := hRT.ext hE9
          refine lv_aload_n hx hb dL_law_505 rfl (lv_at hl 2 rfl) ?_
          refine z_callV cx (j := 0) (m_X4_things G l _ mx thr g hRT1 (mc := 0) (ms := 0)) (lw_V q1401 q1402 q1403 q57 q1404) (zrecv cx hx2 rfl) (by decide +kernel) rfl (rest := [.int (iI (↑(gTs g).length))]) rfl hl (Nat.le_of_ble_eq_true rfl) (by decide) (by omega) dL_law_506 hS (fun q h => by have := hS.1; have := AT.own (hB.ext (Ext.ofS hS)) q h; omega) (fun v506 H locs hp506 hz9 hk9 hS => ?_)
          obtain ⟨rfl, hRT2⟩ := hp506
          have hRC2 := hRC1.overT cx.kk hk9
          have ho2 := ho.overT cx.kk hk9
          clear hk9 hz9
          refine z_icmp_eq cx (tgt := 514) dL_law_509 (by decide) (by omega) (fun c509 => ?_) (fun c509 => (by exfalso; exact c509 rfl))
          exact l514 _ g cs 0 v0 A9 K9 c9 (Nat.lt_succ_self _) (by rw [hte]; exact hRI) (hSI.mono (Nat.le_succ j)) (fun z => hz0 (by omega)) _ _ _ _ _ hS ho2 hRC2 hRT2 (by rw [hse]; clear hz0; omega) (by rw [hse]; clear hz0; omega) (lv_sub hl [0, 1, 2, 3, 4] rfl)
        · rw [if_neg (by omega), Nat.add_zero] at hte
          rw [if_neg (by omega), Nat.add_zero] at hse
          refine z_swOut cx (tgt := 514) dL_law_39 (by omega) (by omega) (by decide) ?_
          exact l514 _ g cs thr v0 A9 K9 c9 (Nat.lt_succ_self _) (by rw [hte]; exact hRI) (hSI.mono (Nat.le_succ j)) (fun z => hz0 (by omega)) _ _ _ _ _ hS ho hRC hRT (by rw [hse]; clear hz0; omega) (by rw [hse]; clear hz0; omega) (lv_sub hl [0, 1, 2, 3, 4] rfl)
  exact lp _ 0 ([], -1, 0, [], [], 0) [] 0 0 0 0 0 (Nat.lt_succ_self _) (by omega) ⟨fun t h => (by cases h), Or.inl rfl, Nat.zero_le _, Nat.zero_le _, Nat.zero_le _⟩ ⟨List.Pairwise.nil, fun t h => (by cases h), Nat.zero_le _⟩ (fun _ => ⟨rfl, rfl⟩) _ _ _ _ _ hS Aoo hRC hRT (by show _ + 0 ≤ 100 + _ + _ + _ + _; omega) (by show _ + 0 ≤ 2000 + _ + _ + _ + _; omega) (lv_sub hl [4, 3, 2, 1, 0] rfl)
