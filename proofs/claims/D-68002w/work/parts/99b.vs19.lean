/-! ===== the component: ask ===== -/
set_option maxHeartbeats 4000000 in
set_option maxRecDepth 100000 in
theorem m_X1_ask (G : zE) (l : Launch) (H0 : Heap) (hl0 : l.stackTraces = false) (x : Nat) (p0 : Int) (cs : List Bool) (g : Sg) (hB : Bh G H0) (hR : RepC G H0 x cs g) (hz : rg p0) (hu : gUse g < 99999) {mc ms : Nat} (hmc : 43 * (gTape g).length + 100 ≤ mc) (hms : (116 + 2 * (gTape g).length) * (gTape g).length + 378 * (gTape g).length + 1100 ≤ ms) : zX G l yX1_ask (ws_ yX1_ask cX1_ask 5 (some FieldType.int)) 20 455 mc ms [.ref x, .int (iI p0)] H0 exIA (fun r H1 => rdOk g p0 = true ∧ r = .int (iI (askA g p0)) ∧ ∃ cs' : List Bool, RepC G H1 x cs' (askS g p0)) (fun H1 => rdOk g p0 = false ∧ RepC G H1 x cs (rdS g)) (AC G H0) := by
  refine zX.start (cc := cX1_ask) (by decide) (Nat.le_of_ble_eq_true rfl) ?_
  intro p e s m args below meth c Q cx hQ htb ls hl
  have hx := cx.1
  have hb := cx.2.1
  have hS : va_S (AC G H0) H0 H0 [] := va_S.rf
  have hl : lv_has ls 5 [(0, .ref x), (1, .int (iI p0))] := hl
  have hB9 := hB.1
  have hBA : ∀ q, AC G H0 q → G.2.heap.size ≤ q := AC.own hB
  have hR0 := hR
  obtain ⟨tp, th, ed, cap, rq, wi, mz, as, rs, pad, hx0, hR2, hm, hok, htz⟩ := hR
  obtain ⟨⟨hm1, hpd⟩, hm2, hm3, hm4, hm5, hm6, hm7, hm8, hm9⟩ := id hm
  obtain ⟨g1, g2, g3, -, -, g6⟩ := id hR2
  have hAx := AC.x hx0 hm5
  have hxl := hx0.lt
  have htl := g1.lt
  have hhl := g2.lt
  have hel := g3.edlt cx.kk.1
  have hal : ∀ a ∈ as, a < H0.size := fun a ha => by obtain ⟨t, ht⟩ := g6.get ha; exact ht.lt
  obtain ⟨N, hN9⟩ : ∃ N, N = (gTape g).length := ⟨_, rfl⟩
  obtain ⟨N2, hN2⟩ : ∃ N2, N2 = (116 + 2 * N) * N := ⟨_, rfl⟩
  rw [← hN9, ← hN2] at hms
  rw [← hN9] at hmc
  refine lv_aload_n hx hb dX1_ask_0 rfl (lv_at hl 0 rfl) ?_
  refine lv_aload_n hx hb dX1_ask_1 rfl (lv_at hl 0 rfl) ?_
  refine lv_iload_n hx hb dX1_ask_2 rfl (lv_at hl 1 rfl) ?_
  refine z_callVX cx (j := 1) (m_X1_readFor G l _ hl0 x tp th rq wi (gFault g) (gTime g) (gUse g : Int) p0 (gTape g) pad hB hm5 hx0 g1 ⟨hok.1, hpd, hok.2.1⟩ hz (mc := 10 * N + 31) (ms := N2 + 28 * N + 506) (by rw [hN9]; exact Nat.le_refl _) (by rw [hN2, hN9]; exact Nat.le_refl _)) (lw_V q726 q728 qs7 q32 q729) (zrecv cx hx0 rfl) (by decide +kernel) rfl (rest := [.ref x]) rfl hl (Nat.le_of_ble_eq_true rfl) (by decide) (by omega) dX1_ask_3 hS (fun q h => by rcases h with h | h; exact Or.inl (Nat.le_trans hS.1 h); exact h ▸ hAx) (fun q9 ce9 H locs hp3 hz9 hk9 hS hce9 hcv9 hcl9 => ?_) (fun v3 H locs hp3 hz9 hk9 hS => ?_)
  · subst hQ; exact z_outX cx htb ⟨by rw [rdOk]; exact decide_eq_false hp3.1, RepC.rd cx.kk hx0 hR2 hm hok htz hk9 hp3.2⟩ hS hce9 hcv9 hcl9 (by omega)
  skip
  obtain ⟨hrd, hx1, h9, rs9, cs9, rfl, hHR, hnd, hrs, htz9⟩ := hp3
  have hrdx : tln (gTape g) (rdT (gTape g)).2 = rdX g := rfl
  rw [hrdx] at hHR htz9
  have hrd9 : rdOk g p0 = true := by rw [rdOk]; exact decide_eq_true hrd
  have kq0 : ∀ q : Nat, q < H0.size → q ≠ x → H[q]? = H0[q]? := fun q h1 h2 => hk9 q h1 (by rintro (z | z); exact absurd h1 (Nat.not_lt.mpr z); exact h2 z)
  have hxth : x ≠ th := hx0.cl.ne g2.cl cx.kk rfl
  have hxtp : tp ≠ x := g1.cl.ne hx0.cl cx.kk rfl
  have hxed : ed ≠ x := g3.ne cx.kk hx0.cl hm5 rfl
  have hth := g2.kept (kq0 th hhl hxth.symm)
  have htp := g1.kept (kq0 tp htl hxtp)
  have hed := g3.kept (fun h1 h2 => kq0 ed h1 hxed)
  have hax : ∀ a ∈ as, a ≠ x := fun a ha => by obtain ⟨t, ht⟩ := g6.get ha; exact ht.cl.ne hx0.cl cx.kk rfl
  have hC := g6.kp (P' := PC G x tp th ed as rs9) cx.kk.1 (fun q h1 h2 => ⟨⟨h2.1, h2.2.1, h2.2.2.1, h2.2.2.2.1, h2.2.2.2.2.1, fun z => by have := hrs q z; omega⟩, kq0 q h1 h2.1⟩) (fun a ha => kq0 a (hal a ha) (hax a ha))
  have hPn : ∀ q, (H0.size ≤ q ∨ q < G.2.heap.size) ∧ q ∉ rs9 → PC G x tp th ed as rs9 q := fun q z => ⟨by rcases z.1 with w | w <;> omega, by rcases z.1 with w | w <;> omega, by rcases z.1 with w | w <;> omega, fun hb => by rcases z.1 with w | w; intro e; have := hel (by omega); omega; omega, fun w => by have := hal q w; have := hm8 q w; rcases z.1 with v | v <;> omega, z.2⟩
  have hHR := hHR.weak cx.kk.1 hPn
  have hrs9 : ∀ r ∈ rs9, G.2.heap.size ≤ r := fun r hr => by have := hrs r hr; omega
  clear hk9 hz9
  obtain ⟨T, hT⟩ : ∃ T, T = mrg (rdX g) := ⟨_, rfl⟩
  rw [← hT] at hHR htz9
  have hTl := tsz_len T
  have hTv : ∀ t ∈ T, t.2.length ≤ 3000 := fun t ht => by have := mem_tsz ht; have := hok.2.1; omega
  have hVc : hdV T nCc = vof (rdX g) nCc := by rw [hT]; exact (mrg_ok (rdX g) nCc).2
  have hVl := hdV_tsz T nCc
  have hxne : th ≠ x := hxth.symm
  have hn3 := hok.2.1
  refine z_put cx (k0 := 2) (vs' := [.ref tp, .ref th, .ref h9, .ref wi, .int (iI 0), .int (iI ((rdT (gTape g)).1)), .int (iI (gTime g)), .int (iI (gUse g : Int))]) hx1 hAx hS rfl in_X1 tyX1_ok nmX1 (by decide) q674 rfl rfl  rfl (Nat.le_of_ble_eq_true rfl) ⟨rfl, rfl⟩ dX1_ask_6 (fun H locs hx1 hz9 hq9 hS => ?_)
  have hth := hth.kept (hq9 _ hxne)
  have hed := hed.kept (fun _ _ => hq9 _ hxed)
  have htp := htp.kept (hq9 _ hxtp)
  have hHR := hHR.kp cx.kk.1 (Kp.put hq9 (fun q z => z.1)) (fun r hr => hq9 r (by have := hrs r hr; omega))
  have hC := hC.kp cx.kk.1 (Kp.put hq9 (fun q z => z.1)) (fun a ha => hq9 a (hax a ha))
  obtain ⟨z9, hz10⟩ : ∃ z, z = H.size := ⟨_, rfl⟩
  have hrl9 : ∀ r ∈ rs9, r < z9 := fun r hr => by have := (hHR.rcl r hr).lt; omega
  have hgs1 := hS.1
  have hHR := hHR.kp (P' := fun q => PC G x tp th ed as rs9 q ∧ q < z9) cx.kk.1 (Kp.weak (fun q h1 h2 => ⟨h2, by omega⟩)) (fun _ _ => rfl)
  have hC := hC.kp (P' := fun q => PC G x tp th ed as rs9 q ∧ q < z9) cx.kk.1 (Kp.weak (fun q h1 h2 => ⟨h2, by omega⟩)) (fun _ _ => rfl)
  refine z_new cx (ci := 2) (vs := [.null, .null]) hS rfl in_X3 tyX3_ok q114 q115 q37 (zdefX3) (by omega) dX1_ask_9 (fun co H hco hgco Aco hz9 hE9 hS => ?_)
  have hx1 := hx1.ext hE9
  have hth := hth.ext hE9
  have hed := hed.ext hE9
  have htp := htp.ext hE9
  have hHR := hHR.ext cx.kk.1 hE9
  have hC := hC.ext cx.kk.1 hE9
  obtain ⟨L9, ed9, cap9, mz9, hPh, hPL, hPe, hh9, hL9, hed9, hcap9, hN9'⟩ := id hHR
  refine lv_dup hx hb dX1_ask_12 rfl ?_
  refine lv_aload_n hx hb dX1_ask_13 rfl (lv_at hl 0 rfl) ?_
  refine z_get cx (k0 := 2) hx1 rfl in_X1 (by decide) q674 rfl rfl dX1_ask_14 ?_
  obtain ⟨la17, ltx, lR, lS17⟩ := lit_X1_152 cx.kk.1
  refine z_ldcS cx lR dX1_ask_17 ?_
  refine z_callV cx (j := 1) (m_X2_value G l _ (fun q => PC G x tp th ed as rs9 q ∧ q < z9) (Old G) h9 L9 ed9 cap9 la17 (.int (iI mz9)) rs9 T cs9 nCc (hB.ofS hS hBA) hh9 hL9 hed9 hN9' (by omega) (lS17.old (hB.ofS hS hBA)) (mc := 0) (ms := 0)) (lw_V q796 q797 q798 q36 q799) (zrecv cx hh9 rfl) (by decide +kernel) rfl (rest := [.ref co, .ref co]) rfl hl (Nat.le_of_ble_eq_true rfl) (by decide) (by omega) dX1_ask_19 hS (fun q h => Or.inl (Nat.le_trans hS.1 h)) (fun v19 H locs hp19 hz9 hk9 hS => ?_)
  have hE9 := Ext.of hz9 hk9 (fun q h => h)
  obtain ⟨o9, rfl, ho⟩ := hp19
  have hx1 := hx1.ext hE9
  have hth := hth.ext hE9
  have hed := hed.ext hE9
  have htp := htp.ext hE9
  have Aco := Aco.ext hE9
  have hh9 := hh9.ext hE9
  have hHR := hHR.ext cx.kk.1 hE9
  have hC := hC.ext cx.kk.1 hE9
  have hx8 := hx1
  have ht8 := hth
  have hp8 := htp
  have he8 := hed
  have hc0 := Aco
  refine z_callI cx (j := 1) (m_X3_init G l _ (fun q => PC G x tp th ed as rs9 q ∧ q < z9) co o9 (hdV T nCc) (hB.ofS hS hBA) (by omega) Aco ho (by omega) (fun q z => by have := z.2; omega) (mc := 13 * N + 30) (ms := 50 * N + 500) (by omega) (by omega)) (lw_meth q118) q37 q116 q117 rfl (by decide +kernel) rfl (rest := [.ref co]) rfl hl (Nat.le_of_ble_eq_true rfl) (by decide) (by omega) dX1_ask_22 hS (fun q h => by rcases h with h | h; exact Or.inl (Nat.le_trans hS.1 h); exact Or.inl (by omega)) (fun H locs hp22 hz9 hk9 hS => ?_)
  have hCt := hp22
  have kq : ∀ q : Nat, q < z9 → H[q]? = _ := fun q hq => hk9 q (by have := hc0.lt; omega) (by have := hc0.lt; rintro (z | z) <;> omega)
  have hx1 := hx8.kept (kq x (by omega))
  have hth := ht8.kept (kq th (by omega))
  have htp := hp8.kept (kq tp (by omega))
  have hed := he8.kept (fun _ hb => kq ed (by have := hel hb; omega))
  have hHR := hHR.kp (P' := PC G x tp th ed as rs9) cx.kk.1 (fun q h1 h2 => ⟨h2.1, kq q h2.2⟩) (fun r hr => kq r (hrl9 r hr))
  have hC := hC.kp (P' := PC G x tp th ed as rs9) cx.kk.1 (fun q h1 h2 => ⟨h2.1, kq q h2.2⟩) (fun a ha => kq a (by have := hal a ha; omega))
  have hCt := hCt.kp (P' := PC G x tp th ed as rs9) cx.kk.1 (Kp.weak (fun q _ z => hPn q (by have := hc0.lt; refine ⟨by rcases z with z | z | z <;> omega, fun w => ?_⟩; have := hrl9 q w; have := hrs9 q w; rcases z with z | z | z <;> omega)))
  clear hk9 hz9 kq
  refine lv_astore_n (lv' := [(2, .ref co), (0, .ref x), (1, .int (iI p0))]) hx hb dX1_ask_25 rfl hl (by decide) rfl (fun ls hl => ?_)
  refine lv_aload_n hx hb dX1_ask_26 rfl (lv_at hl 1 rfl) ?_
  refine lv_aload_n hx hb dX1_ask_27 rfl (lv_at hl 0 rfl) ?_
  refine z_put cx (k0 := 3) (vs' := [.ref tp, .ref th, .ref h9, .ref co, .int (iI 0), .int (iI ((rdT (gTape g)).1)), .int (iI (gTime g)), .int (iI (gUse g : Int))]) hx1 hAx hS rfl in_X1 tyX1_ok nmX1 (by decide) q675 rfl rfl  rfl (Nat.le_of_ble_eq_true rfl) ⟨rfl, rfl⟩ dX1_ask_28 (fun H locs hx1 hz9 hq9 hS => ?_)
  have hth := hth.kept (hq9 _ hxne)
  have hed := hed.kept (fun _ _ => hq9 _ hxed)
  have htp := htp.kept (hq9 _ hxtp)
  have hHR := hHR.kp cx.kk.1 (Kp.put hq9 (fun q z => z.1)) (fun r hr => hq9 r (by have := hrs r hr; omega))
  have hC := hC.kp cx.kk.1 (Kp.put hq9 (fun q z => z.1)) (fun a ha => hq9 a (hax a ha))
  have hCt := hCt.kp cx.kk.1 (Kp.put hq9 (fun q z => z.1))
  refine lv_aload_n hx hb dX1_ask_31 rfl (lv_at hl 1 rfl) ?_
  refine lv_iload_n hx hb dX1_ask_32 rfl (lv_at hl 2 rfl) ?_
  have hgs3 := hS.1
  have hzH : z9 ≤ H.size := by have := hCt.1; obtain ⟨-, nl0, ul0, hc8, -⟩ := id hCt; have := hc8.lt; omega
  have hul := uC_le cs9 T
  have hfl := fC_tsz T
  have hlnT := hHR.len
  have hcle := csO_le (p0 := p0) (ts := gTs g) as.length cs9 hlnT.2
  obtain ⟨c9, hc9⟩ : ∃ c, c = csO T p0 (gTs g) as.length cs9 := ⟨_, rfl⟩
  have hx8 := hx1
  have ht8 := hth
  have hp8 := htp
  have he8 := hed
  have hn24 := hok.2.2.2.2.1
  have hlen := hC.1
  refine z_callV cx (j := 1) (m_X1_theOne G l _ (PC G x tp th ed as rs9) x h9 th ed cap p0 mz (.ref tp) (.ref co) (.int (iI 0)) (.int (iI (rdT (gTape g)).1)) (.int (iI (gTime g))) (.int (iI (gUse g : Int))) rs9 as T cs9 (gTs g) (hB.ofS hS hBA) hx1 hth hed hHR hC hnd hrs9 (fun q z => hPn q ⟨by rcases z with z | z <;> omega, fun w => by have := hrl9 q w; have := hrs9 q w; rcases z with z | z <;> omega⟩) (fun q z => z.2.2.2.2.2) ⟨by omega, by omega, hz⟩ hTv (mc := 20 * N) (ms := 300 * N) (by omega) (by omega)) (lw_V q800 q802 qs11 q32 q803) (zrecv cx hx1 rfl) (by decide +kernel) rfl (rest := []) rfl hl (Nat.le_of_ble_eq_true rfl) (by decide) (by omega) dX1_ask_33 hS (fun q h => by rcases h with h | h; exact Or.inl (Nat.le_trans hS.1 h); exact Or.inl (hrs q h)) (fun v33 H locs hp33 hz9 hk9 hS => ?_)
  obtain ⟨hHR, hone⟩ := hp33
  have kr : ∀ q : Nat, q < _ → q ∉ rs9 → H[q]? = _ := fun q h1 h2 => hk9 q h1 (by rintro (z | z); exact absurd h1 (Nat.not_lt.mpr z); exact h2 z)
  have hr0 : ∀ q : Nat, q < H0.size → q ∉ rs9 := fun q h z => by have := hrs q z; omega
  have hx1 := hx8.kept (kr x hx8.lt (hr0 x hxl))
  have hth := ht8.kept (kr th ht8.lt (hr0 th hhl))
  have htp := hp8.kept (kr tp hp8.lt (hr0 tp htl))
  have hed := he8.kept (fun h1 hb => kr ed h1 (hr0 ed (hel hb)))
  have kp1 : Kp (PC G x tp th ed as rs9) _ (PC G x tp th ed as rs9) H := fun q h1 h2 => ⟨h2, kr q h1 h2.2.2.2.2.2⟩
  have hC := hC.kp cx.kk.1 kp1 (fun a ha => by obtain ⟨t, ht⟩ := hC.get ha; exact kr a ht.lt (hr0 a (hal a ha)))
  have hCt := hCt.kp cx.kk.1 kp1
  rw [← hc9] at hHR
  clear hk9 hz9 kr kp1
  have hlx : oneX T p0 (gTs g) as.length = lix (isOne (rdX g) p0) (gTs g) 0 (-1) := by rw [hT, hlen]; exact oneX_lix _ _ _
  rw [hlx] at hone
  have hfin : ∀ (ts' : List Th) (u' : Nat) (H1 : Heap), ts'.length ≤ 24 → u' < 100000 → Ob G H1 x 0 [.ref tp, .ref th, .ref h9, .ref co, .int (iI 0), .int (iI (rdT (gTape g)).1), .int (iI (gTime g)), .int (iI (u' : Int))] → Ai G H1 tp 100 (gTape g ++ pad) → Ob G H1 th 8 [.int (iI mz), .ref ed, .int (iI (as.length : Int))] → EDok G H1 ed as cap → HR G (PC G x tp th ed as rs9) H1 h9 rs9 T c9 → Ct G (PC G x tp th ed as rs9) H1 co (ctL (hdV T nCc)) → CTs G (PC G x tp th ed as rs9) H1 as ts' → RepC G H1 x c9 ([], -1, gTime g, rdX g, ts', u') := fun ts' u' H1 n1 n2 f1 f2 f3 f4 f5 f6 f7 => by
    rw [hrd.1] at f1
    rw [hVc] at f6
    rw [hT] at f5
    refine ⟨tp, th, ed, cap, h9, co, mz, as, rs9, gTape g ++ pad, f1, ⟨f2, f3, f4, f5, f6, f7⟩, ⟨⟨?_, ?_⟩, hm2, hm3, hnd, hm5, hm6, hm7, hm8, hrs9⟩, ⟨chs_nil, Nat.zero_le _, by show -1 ≤ (-1 : Int) ∧ (-1 : Int) ≤ 300; decide, hok.2.2.2.1, n1, n2⟩, ?_⟩
    · show 0 + (gTape g ++ pad).length = 300
      rw [List.length_append, Nat.zero_add]; exact hm1
    · intro c hc
      rcases List.mem_append.mp hc with z | z
      · exact hok.1 c z
      · exact hpd c z
    · show tsz (mrg (rdX g)) ≤ 300
      rw [← hT]; omega
  have l73 : ∀ (fuel : Nat) (y : Int), 0 < fuel → (askG g p0 = y) → (y ≠ 1 ∧ y ≠ 2 ∧ 0 ≤ y ∧ y ≤ 4) → ∀ (H : Heap) (locs : List Loc) (ls : Array Slot) (k n : Nat), va_S (AC G H0) H0 H locs → Ob G H x 0 [.ref tp, .ref th, .ref h9, .ref co, .int (iI 0), .int (iI ((rdT (gTape g)).1)), .int (iI (gTime g)), .int (iI (gUse g : Int))] → Ob G H th 8 [.int (iI mz), .ref ed, .int (iI ↑as.length)] → EDok G H ed as cap → Ai G H tp 100 (gTape g ++ pad) → (HR G (PC G x tp th ed as rs9) H h9 rs9 T c9) → (CTs G (PC G x tp th ed as rs9) H as (gTs g)) → (Ct G (PC G x tp th ed as rs9) H co (ctL (hdV T nCc))) → (k ≤ mc) → (n ≤ ms) → lv_has ls 5 [(0, .ref x), (1, .int (iI p0)), (2, .ref co), (4, .int (iI y))] → W p l e ⟨20, mc, ms, 455⟩ s m args below meth c H locs k n Q (F0 m 73 ls []) := by
    intro fuel
    induction fuel with
    | zero => intro y hf9; exact absurd hf9 (Nat.not_lt_zero _)
    | succ fuel ih_l73 =>
      intro y hf9 hy hyn H locs ls k n hS hx1 hth hed htp hHR hC hCt hr1 hr2 hl
      obtain ⟨-, nl0, ul0, hc8, -⟩ := id hCt
      have hS1 : ¬ (askG g p0 = 1 ∨ askG g p0 = 2) := by rw [hy]; omega
      have hS2 : askS g p0 = ([], -1, gTime g, rdX g, gTs g, gUse g) := by rw [askS, if_neg hS1]
      refine lv_aload_n hx hb dX1_ask_73 rfl (lv_at hl 2 rfl) ?_
      obtain ⟨la74, ltx, lR, lS74⟩ := lit_X1_169 cx.kk.1
      refine z_ldcS cx lR dX1_ask_74 ?_
      refine z_callV cx (j := 1) (m_X3_has G l _ (PC G x tp th ed as rs9) (Old G) co la74 (ctL (hdV T nCc)) nOic (hB.ofS hS hBA) hCt (lS74.old (hB.ofS hS hBA)) (mc := 0) (ms := 0)) (lw_V q833 q834 q835 q37 q836) (zrecv cx hc8 rfl) (by decide +kernel) rfl (rest := []) rfl hl (Nat.le_of_ble_eq_true rfl) (by decide) (by omega) dX1_ask_76 hS (fun q h => Or.inl (Nat.le_trans hS.1 h)) (fun v76 H locs hp76 hz9 hk9 hS => ?_)
      have hE9 := Ext.of hz9 hk9 (fun q h => h)
      have hx1 := hx1.ext hE9
      have hth := hth.ext hE9
      have hed := hed.ext hE9
      have htp := htp.ext hE9
      have hc8 := hc8.ext hE9
      have hb76 := b2i_rg (decide (ctF (ctL (hdV T nCc)) nOic ≠ -1))
      subst hp76
      have hHR := hHR.ext cx.kk.1 hE9
      have hC := hC.ext cx.kk.1 hE9
      have hCt := hCt.ext cx.kk.1 hE9
      rw [ctL_has, hVc]
      have hr1 := b2i_rg (hasW (vof (rdX g) nCc) nOic)
      refine z_if_eq cx (tgt := 86) dX1_ask_79 (by decide) (by omega) (fun c79 => ?_) (fun c79 => ?_)
      · have hf := b2i_eq0 c79
        refine lv_iload hx hb dX1_ask_86 (lv_at hl 3 rfl) ?_
        subst hQ
        exact vx_ret (z_iret cx rfl rfl rfl (⟨hrd9, by rw [askA, if_neg hS1, if_neg (by rw [hf]; decide), hy], c9, by rw [hS2]; exact hfin _ _ _ hok.2.2.2.2.1 hok.2.2.2.2.2 hx1 htp hth hed hHR hCt hC⟩) hS (by omega) dX1_ask_88)
      · have hf := b2i_ne0 c79
        refine lv_iconst (v := iI (4)) hx hb dX1_ask_82 rfl ?_
        refine lv_goto (tgt := 88) hx hb dX1_ask_83 (by decide) ?_
        subst hQ
        exact vx_ret (z_iret cx rfl rfl rfl (⟨hrd9, by rw [askA, if_neg hS1, if_pos hf], c9, by rw [hS2]; exact hfin _ _ _ hok.2.2.2.2.1 hok.2.2.2.2.2 hx1 htp hth hed hHR hCt hC⟩) hS (by omega) dX1_ask_88)
  rcases hone with ⟨h1, rfl⟩ | ⟨h1, rfl⟩
  · have hG : askG g p0 = 0 := by rw [askG, if_pos h1]
    refine lv_astore_nN (lv' := [(3, .null), (2, .ref co), (0, .ref x), (1, .int (iI p0))]) hx hb dX1_ask_36 rfl hl (by decide) rfl (fun ls hl => ?_)
    refine lv_aload_nN hx hb dX1_ask_37 rfl (lv_at hl 0 rfl) ?_
    refine lv_ifnonnullN hx hb dX1_ask_38 ?_
    refine lv_iconst (v := iI (0)) hx hb dX1_ask_41 rfl ?_
    refine lv_goto (tgt := 51) hx hb dX1_ask_42 (by decide) ?_
    refine lv_istore (lv' := [(4, .int (iI 0)), (3, .null), (2, .ref co), (0, .ref x), (1, .int (iI p0))]) hx hb dX1_ask_51 hl (by decide) rfl (fun ls hl => ?_)
    refine lv_iload hx hb dX1_ask_53 (lv_at hl 0 rfl) ?_
    refine lv_iconst (v := iI (1)) hx hb dX1_ask_55 rfl ?_
    refine z_icmp_eq cx (tgt := 65) dX1_ask_56 (by decide) (by omega) (fun c56 => (by exfalso; exact absurd c56 (by decide))) (fun c56 => ?_)
    refine lv_iload hx hb dX1_ask_59 (lv_at hl 0 rfl) ?_
    refine lv_iconst (v := iI (2)) hx hb dX1_ask_61 rfl ?_
    refine z_icmp_ne cx (tgt := 73) dX1_ask_62 (by decide) (by omega) (fun c62 => ?_) (fun c62 => (by exfalso; exact absurd c62 (by decide)))
    exact l73 _ 0 (Nat.lt_succ_self _) hG (by omega) _ _ _ _ _ hS hx1 hth hed htp hHR hC hCt (by omega) (by omega) (lv_sub hl [3, 4, 2, 0] rfl)
  · have hlr := lix_rg (isOne (rdX g) p0) (gTs g) 0 (-1) (by omega) (by omega)
    obtain ⟨I, hI⟩ : ∃ I : Nat, lix (isOne (rdX g) p0) (gTs g) 0 (-1) = (I : Int) := ⟨(lix (isOne (rdX g) p0) (gTs g) 0 (-1)).toNat, by omega⟩
    obtain ⟨a9, ha9⟩ : ∃ w, as[I]? = some w := ⟨_, List.getElem?_eq_getElem (by omega)⟩
    have hgd9 : as.getD I 0 = a9 := by rw [List.getD_eq_getElem?_getD, ha9]; rfl
    obtain ⟨t9, ht9, hO9⟩ := hC.at ha9
    have ham := List.mem_of_getElem? ha9
    have hG : askG g p0 = ans (vof (rdX g) nCc) t9 (gTime g) := by rw [askG, if_neg (by omega), hI, Int.toNat_natCast, ht9]
    have hAr := ans_rg (vof (rdX g) nCc) t9 (gTime g)
    obtain ⟨Y, hY⟩ : ∃ Y, Y = ans (vof (rdX g) nCc) t9 (gTime g) := ⟨_, rfl⟩
    rw [← hY] at hG hAr
    rw [hI, Int.toNat_natCast, hgd9]
    obtain ⟨ho9, e0, v0, w0, co0, hOt, hE0, hV0, hW0, hK0⟩ := id hO9
    refine lv_astore_n (lv' := [(3, .ref a9), (2, .ref co), (0, .ref x), (1, .int (iI p0))]) hx hb dX1_ask_36 rfl hl (by decide) rfl (fun ls hl => ?_)
    refine lv_aload_n hx hb dX1_ask_37 rfl (lv_at hl 0 rfl) ?_
    refine lv_ifnonnull (tgt := 45) hx hb dX1_ask_38 (by decide) ?_
    refine lv_aload_n hx hb dX1_ask_45 rfl (lv_at hl 2 rfl) ?_
    refine lv_aload_n hx hb dX1_ask_46 rfl (lv_at hl 0 rfl) ?_
    refine lv_aload_n hx hb dX1_ask_47 rfl (lv_at hl 1 rfl) ?_
    refine z_callV cx (j := 2) (m_X1_answer G l _ (PC G x tp th ed as rs9) (PC G x tp th ed as rs9) x a9 co (gTime g) (.ref tp) (.ref th) (.ref h9) (.ref co) (.int (iI 0)) (.int (iI (rdT (gTape g)).1)) (.int (iI (gUse g : Int))) t9 (hdV T nCc) (hB.ofS hS hBA) hx1 hO9 hCt hok.2.2.2.1 (mc := 0) (ms := 0)) (lw_V q824 q826 qs13 q32 q827) (zrecv cx hx1 rfl) (by decide +kernel) rfl (rest := []) rfl hl (Nat.le_of_ble_eq_true rfl) (by decide) (by omega) dX1_ask_48 hS (fun q h => Or.inl (Nat.le_trans hS.1 h)) (fun v48 H locs hp48 hz9 hk9 hS => ?_)
    have hE9 := Ext.of hz9 hk9 (fun q h => h)
    have hx1 := hx1.ext hE9
    have hth := hth.ext hE9
    have hed := hed.ext hE9
    have htp := htp.ext hE9
    have hOt := hOt.ext hE9
    subst hp48
    have hHR := hHR.ext cx.kk.1 hE9
    have hC := hC.ext cx.kk.1 hE9
    have hCt := hCt.ext cx.kk.1 hE9
    have hE0 := hE0.ext hE9
    have hV0 := hV0.ext cx.kk.1 hE9
    have hW0 := hW0.ext cx.kk.1 hE9
    have hK0 := hK0.ext cx.kk.1 hE9
    rw [hVc, ← hY]
    have l65 : ∀ (fuel : Nat) , 0 < fuel → (Y = 1 ∨ Y = 2) → ∀ (H : Heap) (locs : List Loc) (ls : Array Slot) (k n : Nat), va_S (AC G H0) H0 H locs → Ob G H x 0 [.ref tp, .ref th, .ref h9, .ref co, .int (iI 0), .int (iI ((rdT (gTape g)).1)), .int (iI (gTime g)), .int (iI (gUse g : Int))] → Ob G H th 8 [.int (iI mz), .ref ed, .int (iI ↑as.length)] → EDok G H ed as cap → Ai G H tp 100 (gTape g ++ pad) → Ob G H a9 4 [.int (iI (tPath t9)), .ref e0, .ref v0, .ref w0, .ref co0, .int (iI (tLife t9)), .int (iI (tAge t9)), .int (iI (tSince t9)), .int (iI (tUsed t9 : Int))] → (HR G (PC G x tp th ed as rs9) H h9 rs9 T c9) → (CTs G (PC G x tp th ed as rs9) H as (gTs g)) → (Ct G (PC G x tp th ed as rs9) H co (ctL (hdV T nCc))) → (St G (PC G x tp th ed as rs9) H e0 (tEtag t9)) → (LSt G (PC G x tp th ed as rs9) H v0 (tVary t9)) → (LSt G (PC G x tp th ed as rs9) H w0 ((tVals t9).map lsO)) → (Ct G (PC G x tp th ed as rs9) H co0 (ctL (tCc t9))) → (k ≤ mc) → (n ≤ ms) → lv_has ls 5 [(0, .ref x), (3, .ref a9), (4, .int (iI Y))] → W p l e ⟨20, mc, ms, 455⟩ s m args below meth c H locs k n Q (F0 m 65 ls []) := by
      intro fuel
      induction fuel with
      | zero => intro  hf9; exact absurd hf9 (Nat.not_lt_zero _)
      | succ fuel ih_l65 =>
        intro  hf9 hY2 H locs ls k n hS hx1 hth hed htp hOt hHR hC hCt hE0 hV0 hW0 hK0 hr1 hr2 hl
        have hS1 : askG g p0 = 1 ∨ askG g p0 = 2 := by rw [hG]; exact hY2
        have hS2 : askS g p0 = ([], -1, gTime g, rdX g, (gTs g).set I (useT t9 (gUse g + 1)), gUse g + 1) := by rw [askS, if_pos hS1, hI, Int.toNat_natCast, ht9]
        have hAa := AC.a g6 ham (hm8 a9 ham)
        have hx8 := hx1
        have ht8 := hth
        have hp8 := htp
        have he8 := hed
        have hax9 := hax a9 ham
        have hath : th ≠ a9 := hth.cl.ne hOt.cl cx.kk rfl
        have hatp : tp ≠ a9 := htp.cl.ne hOt.cl cx.kk rfl
        have haed : ed ≠ a9 := hed.ne cx.kk hOt.cl (hm8 a9 ham) rfl
        refine lv_aload_n hx hb dX1_ask_65 rfl (lv_at hl 0 rfl) ?_
        refine lv_aload_n hx hb dX1_ask_66 rfl (lv_at hl 1 rfl) ?_
        refine z_callVv cx (j := 1) (m_X1_use G l _ x a9 (gUse g : Int) (.ref tp) (.ref th) (.ref h9) (.ref co) (.int (iI 0)) (.int (iI (rdT (gTape g)).1)) (.int (iI (gTime g))) (.int (iI (tPath t9))) (.ref e0) (.ref v0) (.ref w0) (.ref co0) (.int (iI (tLife t9))) (.int (iI (tAge t9))) (.int (iI (tSince t9))) (.int (iI (tUsed t9 : Int))) hx1 hOt (mc := 0) (ms := 0)) (lw_V q863 q865 qs14 q32 q866) (zrecv cx hx1 rfl) (by decide +kernel) rfl (rest := []) rfl hl (Nat.le_of_ble_eq_true rfl) (by decide) (by omega) dX1_ask_67 hS (fun q h => by rcases h with h | h | h; exact Or.inl (Nat.le_trans hS.1 h); exact h ▸ hAx; exact h ▸ hAa) (fun H locs hp67 hz9 hk9 hS => ?_)
        obtain ⟨hx1, hOt⟩ := hp67
        have kr : ∀ q : Nat, q < _ → q ≠ x → q ≠ a9 → H[q]? = _ := fun q h1 h2 h3 => hk9 q h1 (by rintro (z | z | z); exact absurd h1 (Nat.not_lt.mpr z); exact h2 z; exact h3 z)
        have kp1 : Kp (PC G x tp th ed as rs9) _ (PC G x tp th ed as rs9) H := fun q h1 h2 => ⟨h2, kr q h1 h2.1 (fun z => h2.2.2.2.2.1 (z ▸ ham))⟩
        have hth := ht8.kept (kr th ht8.lt hxne hath)
        have htp := hp8.kept (kr tp hp8.lt hxtp hatp)
        have hed := he8.kept (fun h1 hb => kr ed h1 hxed haed)
        have hHR := hHR.kp cx.kk.1 kp1 (fun r hr => kr r (hHR.rcl r hr).lt (by have := hrs r hr; omega) (by have := hrs r hr; have := hal a9 ham; omega))
        have hCt := hCt.kp cx.kk.1 kp1
        have hth9 : CTh G (PC G x tp th ed as rs9) H a9 (useT t9 (gUse g + 1)) := ⟨useT_ok ho9 (by omega), e0, v0, w0, co0, hOt, hE0.kp kp1, hV0.kp cx.kk.1 kp1, hW0.kp cx.kk.1 kp1, hK0.kp cx.kk.1 kp1⟩
        have hC := hC.upd cx.kk.1 ha9 hm3 kp1 (fun b hb hne => by obtain ⟨t, ht⟩ := hC.get hb; exact kr b ht.lt (hax b hb) hne) hth9
        refine lv_iload hx hb dX1_ask_70 (lv_at hl 2 rfl) ?_
        subst hQ
        exact vx_ret (z_iret cx rfl rfl rfl (⟨hrd9, by rw [askA, if_pos hS1, hG], c9, by rw [hS2]; exact hfin _ (gUse g + 1) _ (by rw [List.length_set]; exact hok.2.2.2.2.1) (by omega) hx1 htp hth hed hHR hCt hC⟩) hS (by omega) dX1_ask_72)
    refine lv_istore (lv' := [(4, .int (iI Y)), (3, .ref a9), (2, .ref co), (0, .ref x), (1, .int (iI p0))]) hx hb dX1_ask_51 hl (by decide) rfl (fun ls hl => ?_)
    refine lv_iload hx hb dX1_ask_53 (lv_at hl 0 rfl) ?_
    refine lv_iconst (v := iI (1)) hx hb dX1_ask_55 rfl ?_
    refine z_icmp_eq cx (tgt := 65) dX1_ask_56 (by decide) (by omega) (fun c56 => ?_) (fun c56 => ?_)
    · exact l65 _  (Nat.lt_succ_self _) (Or.inl c56) _ _ _ _ _ hS hx1 hth hed htp hOt hHR hC hCt hE0 hV0 hW0 hK0 (by omega) (by omega) (lv_sub hl [3, 1, 0] rfl)
    · refine lv_iload hx hb dX1_ask_59 (lv_at hl 0 rfl) ?_
      refine lv_iconst (v := iI (2)) hx hb dX1_ask_61 rfl ?_
      refine z_icmp_ne cx (tgt := 73) dX1_ask_62 (by decide) (by omega) (fun c62 => ?_) (fun c62 => ?_)
      · exact l73 _ Y (Nat.lt_succ_self _) hG (by omega) _ _ _ _ _ hS hx1 hth hed htp hHR hC hCt (by omega) (by omega) (lv_sub hl [3, 4, 2, 0] rfl)
      · exact l65 _  (Nat.lt_succ_self _) (Or.inr (by omega)) _ _ _ _ _ hS hx1 hth hed htp hOt hHR hC hCt hE0 hV0 hW0 hK0 (by omega) (by omega) (lv_sub hl [3, 1, 0] rfl)
