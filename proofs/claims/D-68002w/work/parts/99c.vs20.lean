/-! ===== the component: again ===== -/
set_option maxHeartbeats 4000000 in
set_option maxRecDepth 100000 in
theorem m_X1_again (G : zE) (l : Launch) (H0 : Heap) (hl0 : l.stackTraces = false) (x : Nat) (p0 : Int) (cs : List Bool) (g : Sg) (hB : Bh G H0) (hR : RepC G H0 x cs g) (hz : rg p0) (hu : gUse g < 99999) {mc ms : Nat} (hm0 : 10 * (gTape g).length + 31 ≤ mc ∧ (116 + 2 * (gTape g).length) * (gTape g).length + 28 * (gTape g).length + 506 ≤ ms) (hmc : Imp (rdOk g p0 = true) (uC cs (mrg (gReq g)) + 30 * (gTape g).length + 100 ≤ uC (csO (mrg (gReq g)) p0 (gTs g) (gTs g).length cs) (mrg (gReq g)) + mc)) (hms : Imp (rdOk g p0 = true) (uS cs (mrg (gReq g)) + (116 + 2 * (gTape g).length) * (gTape g).length + 100 * (gTape g).length + 1200 ≤ uS (csO (mrg (gReq g)) p0 (gTs g) (gTs g).length cs) (mrg (gReq g)) + ms)) : zX G l yX1_again (ws_ yX1_again cX1_again 5 (some FieldType.boolean)) 20 455 mc ms [.ref x, .int (iI p0)] H0 exIA (fun r H1 => rdOk g p0 = true ∧ r = .int (iI (b2i (agnA g p0))) ∧ RepC G H1 x (csO (mrg (gReq g)) p0 (gTs g) (gTs g).length cs) (agnS g p0)) (fun H1 => rdOk g p0 = false ∧ RepC G H1 x cs (rdS g)) (AC G H0) := by
  refine zX.start (cc := cX1_again) (by decide) (Nat.le_of_ble_eq_true rfl) ?_
  intro p e s m args below meth c Q cx hQ htb ls hl
  have hx := cx.1
  have hb := cx.2.1
  have hS : va_S (AC G H0) H0 H0 [] := va_S.rf
  have hl : lv_has ls 5 [(0, .ref x), (1, .int (iI p0))] := hl
  have hB9 := hB.1
  have hBA : ∀ q, AC G H0 q → G.2.heap.size ≤ q := AC.own hB
  obtain ⟨tp, th, ed, cap, rq, wi, mz, as, rs, pad, hx0, hR2, hm, hok, htz⟩ := hR
  obtain ⟨⟨hm1, hpd⟩, hm2, hm3, hm4, hm5, hm6, hm7, hm8, hm9⟩ := id hm
  obtain ⟨g1, g2, g3, g4, g5, g6⟩ := id hR2
  have hAx := AC.x hx0 hm5
  have hxl := hx0.lt
  have hel := g3.edlt cx.kk.1
  have hal : ∀ a ∈ as, a < H0.size := fun a ha => by obtain ⟨t, ht⟩ := g6.get ha; exact ht.lt
  have hrl : ∀ r ∈ rs, r < H0.size := fun r hr => (g4.rcl r hr).lt
  have hAth := AC.th g2 hm7
  have hAed := fun hb => AC.ed cx.kk.1 g3 (q := ed) hb
  have hlen := g6.1
  have hln0 := g4.len
  obtain ⟨f1, f2, f3⟩ := csO_le (T := mrg (gReq g)) (p0 := p0) (ts := gTs g) (gTs g).length cs hln0.2
  obtain ⟨c9, hc9⟩ : ∃ c, c = csO (mrg (gReq g)) p0 (gTs g) (gTs g).length cs := ⟨_, rfl⟩
  rw [← hc9] at hmc hms f1 f2
  obtain ⟨M, hM⟩ : ∃ T, T = mrg (gReq g) := ⟨_, rfl⟩
  rw [← hM] at hmc hms f1 f2 htz
  obtain ⟨N, hN9⟩ : ∃ N, N = (gTape g).length := ⟨_, rfl⟩
  obtain ⟨N2, hN2⟩ : ∃ N2, N2 = (116 + 2 * N) * N := ⟨_, rfl⟩
  rw [← hN9, ← hN2] at hms
  rw [← hN9] at hmc
  rw [← hN9, ← hN2] at hm0
  refine lv_aload_n hx hb dX1_again_0 rfl (lv_at hl 0 rfl) ?_
  refine lv_iload_n hx hb dX1_again_1 rfl (lv_at hl 1 rfl) ?_
  refine z_callVX cx (j := 1) (m_X1_readFor G l _ hl0 x tp th rq wi (gFault g) (gTime g) (gUse g : Int) p0 (gTape g) pad hB hm5 hx0 g1 ⟨hok.1, hpd, hok.2.1⟩ hz (mc := 10 * N + 31) (ms := N2 + 28 * N + 506) (by rw [hN9]; exact Nat.le_refl _) (by rw [hN2, hN9]; exact Nat.le_refl _)) (lw_V q726 q728 qs7 q32 q729) (zrecv cx hx0 rfl) (by decide +kernel) rfl (rest := []) rfl hl (Nat.le_of_ble_eq_true rfl) (by decide) (by omega) dX1_again_2 hS (fun q h => by rcases h with h | h; exact Or.inl (Nat.le_trans hS.1 h); exact h ▸ hAx) (fun q9 ce9 H locs hp2 hz9 hk9 hS hce9 hcv9 hcl9 => ?_) (fun v2 H locs hp2 hz9 hk9 hS => ?_)
  · subst hQ; exact z_outX cx htb ⟨by rw [rdOk]; exact decide_eq_false hp2.1, RepC.rd cx.kk hx0 hR2 hm hok (by rw [← hM]; exact htz) hk9 hp2.2⟩ hS hce9 hcv9 hcl9 (by omega)
  skip
  obtain ⟨hrd, hx1, h9, rs9, cs9, rfl, hHn, hnd, hrs, htz9⟩ := hp2
  have hrdx : tln (gTape g) (rdT (gTape g)).2 = rdX g := rfl
  rw [hrdx] at hHn htz9
  have hrd9 : rdOk g p0 = true := by rw [rdOk]; exact decide_eq_true hrd
  have hmc := hmc hrd9
  have hms := hms hrd9
  have hR3 := hR2.kx cx.kk hx0 hm5 hk9
  obtain ⟨i1, i2, i3, i4, i5, i6⟩ := hR3
  have hgs1 := hS.1
  have hPn : ∀ q, (H0.size ≤ q ∨ q < G.2.heap.size) → PC G x tp th ed as rs q := fun q z => ⟨by rcases z with w | w <;> omega, by have := g1.lt; rcases z with w | w <;> omega, by have := g2.lt; rcases z with w | w <;> omega, fun hb => by rcases z with w | w; intro e; have := hel (by omega); omega; omega, fun w => by have := hal q w; have := hm8 q w; rcases z with v | v <;> omega, fun w => by have := hrl q w; have := hm9 q w; rcases z with v | v <;> omega⟩
  have hHn := hHn.kp (P' := PC G x tp th ed as rs) cx.kk.1 (Kp.weak (fun q _ z => hPn q z.1)) (fun _ _ => rfl)
  have hT := mrg_ok (rdX g)
  have hTl := tsz_len (mrg (rdX g))
  have hn3 := hok.2.1
  have hn24 := hok.2.2.2.2.1
  have hMl := tsz_len M
  have hMv : ∀ t ∈ M, t.2.length ≤ 3000 := fun t ht => by have := mem_tsz ht; omega
  have hrr : ∀ r ∈ rs9, r ∉ rs := fun r hr z => by have := hrs r hr; have := hrl r z; omega
  clear hk9 hz9
  refine lv_astore_n (lv' := [(2, .ref h9), (0, .ref x), (1, .int (iI p0))]) hx hb dX1_again_5 rfl hl (by decide) rfl (fun ls hl => ?_)
  refine lv_aload_n hx hb dX1_again_6 rfl (lv_at hl 1 rfl) ?_
  refine lv_iload_n hx hb dX1_again_7 rfl (lv_at hl 2 rfl) ?_
  have hx8 := hx1
  refine z_callV cx (j := 1) (m_X1_theOne G l _ (PC G x tp th ed as rs) x rq th ed cap p0 mz (.ref tp) (.ref wi) (.int (iI 0)) (.int (iI (rdT (gTape g)).1)) (.int (iI (gTime g))) (.int (iI (gUse g : Int))) rs as M cs (gTs g) (hB.ofS hS hBA) hx1 i2 i3 (by rw [hM]; exact i4) i6 hm4 hm9 (fun q z => hPn q (z.imp (fun z => Nat.le_trans hgs1 z) id)) (fun q z => z.2.2.2.2.2) ⟨by omega, by omega, hz⟩ hMv (mc := uC cs M - uC c9 M) (ms := uS cs M - uS c9 M) (by rw [hlen, hM, ← hc9, ← hM]; omega) (by rw [hlen, hM, ← hc9, ← hM]; omega)) (lw_V q800 q802 qs11 q32 q803) (zrecv cx hx1 rfl) (by decide +kernel) rfl (rest := []) rfl hl (Nat.le_of_ble_eq_true rfl) (by decide) (by omega) dX1_again_8 hS (fun q h => by rcases h with h | h; exact Or.inl (Nat.le_trans hS.1 h); exact AC.r g4 h (hm9 q h)) (fun v8 H locs hp8 hz9 hk9 hS => ?_)
  obtain ⟨hHR, hone⟩ := hp8
  have kr : ∀ q : Nat, q < _ → q ∉ rs → H[q]? = _ := fun q h1 h2 => hk9 q h1 (by rintro (z | z); exact absurd h1 (Nat.not_lt.mpr z); exact h2 z)
  have kp1 : Kp (PC G x tp th ed as rs) _ (PC G x tp th ed as rs) H := fun q h1 h2 => ⟨h2, kr q h1 h2.2.2.2.2.2⟩
  have hxr : x ∉ rs := fun z => (g4.rcl x z).ne hx0.cl cx.kk rfl rfl
  have hthr : th ∉ rs := fun z => (g4.rcl th z).ne g2.cl cx.kk rfl rfl
  have htpr : tp ∉ rs := fun z => (g4.rcl tp z).ne g1.cl cx.kk rfl rfl
  have hedr : ed ∉ rs := fun z => g3.ne cx.kk (g4.rcl ed z) (hm9 ed z) rfl rfl
  have har : ∀ a ∈ as, a ∉ rs := fun a ha z => by obtain ⟨t, ht⟩ := g6.get ha; exact (g4.rcl a z).ne ht.cl cx.kk rfl rfl
  have hx1 := hx8.kept (kr x hx8.lt hxr)
  have hth := i2.kept (kr th i2.lt hthr)
  have htp := i1.kept (kr tp i1.lt htpr)
  have hed := i3.kept (fun h1 hb => kr ed h1 hedr)
  have hCw := i5.kp cx.kk.1 kp1
  have hC := i6.kp cx.kk.1 kp1 (fun a ha => by obtain ⟨t, ht⟩ := i6.get ha; exact kr a ht.lt (har a ha))
  have hHn := hHn.kp cx.kk.1 kp1 (fun r hr => kr r (hHn.rcl r hr).lt (hrr r hr))
  have hHR : HR G (PC G x tp th ed as rs) H rq rs M c9 := by rw [hc9, ← hlen, ← hM]; exact hHR
  have hlx : oneX M p0 (gTs g) as.length = agnI g p0 := by rw [hM, hlen]; exact oneX_lix _ _ _
  rw [hlx] at hone
  obtain ⟨o8, ho8, hon8⟩ : ∃ o : Option Nat, v8 = va_rf o ∧ ((agnI g p0 = -1 ∧ o = none) ∨ (0 ≤ agnI g p0 ∧ o = some (as.getD (agnI g p0).toNat 0))) := by
    rcases hone with ⟨a, b⟩ | ⟨a, b⟩
    · exact ⟨none, b, Or.inl ⟨a, rfl⟩⟩
    · exact ⟨some _, b, Or.inr ⟨a, rfl⟩⟩
  clear hone
  subst ho8
  have hone := hon8
  clear hk9 hz9 kr kp1 i1 i2 i3 i4 i5 i6
  refine z_astore_nq cx (lv' := [(3, va_rf o8), (2, .ref h9), (0, .ref x), (1, .int (iI p0))]) dX1_again_11 rfl hl (by decide) rfl (fun ls hl => ?_)
  have hVe : hdV (mrg (rdX g)) nEtag = vof (rdX g) nEtag := (mrg_ok (rdX g) nEtag).2
  have l32 : ∀ (fuel : Nat) (y9 : Nat) (w9 : Option Nat), 0 < fuel → ((agnI g p0 = -1 ∧ w9 = none) ∨ (0 ≤ agnI g p0 ∧ w9 = some (as.getD (agnI g p0).toNat 0))) → ∀ (H : Heap) (locs : List Loc) (ls : Array Slot) (k n : Nat), va_S (AC G H0) H0 H locs → Ob G H x 0 [.ref tp, .ref th, .ref rq, .ref wi, .int (iI 0), .int (iI ((rdT (gTape g)).1)), .int (iI (gTime g)), .int (iI (gUse g : Int))] → Ob G H th 8 [.int (iI mz), .ref ed, .int (iI ↑as.length)] → EDok G H ed as cap → Ai G H tp 100 (gTape g ++ pad) → (HR G (PC G x tp th ed as rs) H rq rs M c9) → (HR G (PC G x tp th ed as rs) H h9 rs9 (mrg (rdX g)) cs9) → (CTs G (PC G x tp th ed as rs) H as (gTs g)) → (Ct G (PC G x tp th ed as rs) H wi (ctL (vof (gReq g) nCc))) → (St G (PC G x tp th ed as rs) H y9 ((vof (rdX g) nEtag).getD [])) → (k + 13 * N + 40 ≤ mc) → (n + 50 * N + 520 ≤ ms) → lv_has ls 5 [(0, .ref x), (1, .int (iI p0)), (2, .ref h9), (3, va_rf w9)] → W p l e ⟨20, mc, ms, 455⟩ s m args below meth c H locs k n Q (F0 m 32 ls [.ref y9]) := by
    intro fuel
    induction fuel with
    | zero => intro y9 w9 hf9; exact absurd hf9 (Nat.not_lt_zero _)
    | succ fuel ih_l32 =>
      intro y9 w9 hf9 hone H locs ls k n hS hx1 hth hed htp hHR hHn hC hCw hy hr1 hr2 hl
      have hln1 := hy
      obtain ⟨-, -, -, b8, -, hs8, -⟩ := hln1
      have hfin : ∀ (H1 : Heap), agnA g p0 = false → Ob G H1 x 0 [.ref tp, .ref th, .ref rq, .ref wi, .int (iI 0), .int (iI (rdT (gTape g)).1), .int (iI (gTime g)), .int (iI (gUse g : Int))] → Ai G H1 tp 100 (gTape g ++ pad) → Ob G H1 th 8 [.int (iI mz), .ref ed, .int (iI (as.length : Int))] → EDok G H1 ed as cap → HR G (PC G x tp th ed as rs) H1 rq rs M c9 → Ct G (PC G x tp th ed as rs) H1 wi (ctL (vof (gReq g) nCc)) → CTs G (PC G x tp th ed as rs) H1 as (gTs g) → RepC G H1 x c9 (agnS g p0) := fun H1 hA0 f1 f2 f3 f4 f5 f6 f7 => by
        rw [agnS, if_neg (by rw [hA0]; decide)]
        rw [hrd.1] at f1
        rw [hM] at f5
        refine ⟨tp, th, ed, cap, rq, wi, mz, as, rs, gTape g ++ pad, f1, ⟨f2, f3, f4, f5, f6, f7⟩, ⟨⟨?_, ?_⟩, hm2, hm3, hm4, hm5, hm6, hm7, hm8, hm9⟩, ⟨chs_nil, Nat.zero_le _, by show -1 ≤ (-1 : Int) ∧ (-1 : Int) ≤ 300; decide, hok.2.2.2⟩, ?_⟩
        · show 0 + (gTape g ++ pad).length = 300
          rw [List.length_append, Nat.zero_add]; exact hm1
        · intro c hc
          rcases List.mem_append.mp hc with z | z
          · exact hok.1 c z
          · exact hpd c z
        · show tsz (mrg (gReq g)) ≤ 300
          rw [← hM]; exact htz
      refine lv_astore (lv' := [(4, .ref y9), (0, .ref x), (1, .int (iI p0)), (2, .ref h9), (3, va_rf w9)]) hx hb dX1_again_32 hl (by decide) (by cases w9 <;> exact rfl) (fun ls hl => ?_)
      rcases hone with ⟨h1, rfl⟩ | ⟨h1, rfl⟩
      · have hA0 : agnA g p0 = false := by rw [agnA, if_pos h1]
        refine lv_aload_nN hx hb dX1_again_34 rfl (lv_at hl 4 rfl) ?_
        refine lv_ifnullN (tgt := 58) hx hb dX1_again_35 (by decide) ?_
        refine lv_iconst (v := iI (0)) hx hb dX1_again_58 rfl ?_
        subst hQ
        exact vx_ret (z_iret cx rfl rfl rfl (⟨hrd9, by rw [hA0]; rfl, by rw [← hc9]; exact hfin _ hA0 hx1 htp hth hed hHR hCw hC⟩) hS (by omega) dX1_again_59)
      · have hlr := lix_rg (isOne (gReq g) p0) (gTs g) 0 (-1) (by omega) (by omega)
        have hag : agnI g p0 = lix (isOne (gReq g) p0) (gTs g) 0 (-1) := rfl
        obtain ⟨I, hI⟩ : ∃ I : Nat, agnI g p0 = (I : Int) := ⟨(agnI g p0).toNat, by omega⟩
        obtain ⟨a9, ha9⟩ : ∃ w, as[I]? = some w := ⟨_, List.getElem?_eq_getElem (by omega)⟩
        have hgd9 : as.getD I 0 = a9 := by rw [List.getD_eq_getElem?_getD, ha9]; rfl
        obtain ⟨t9, ht9, hO9⟩ := hC.at ha9
        have ham := List.mem_of_getElem? ha9
        have hAg : agnA g p0 = agnOk g t9 := by rw [agnA, if_neg (by omega), hI, Int.toNat_natCast, ht9]
        rw [hI, Int.toNat_natCast, hgd9] at hl
        obtain ⟨ho9, e0, v0, w0, co0, hOt, hE0, hV0, hW0, hK0⟩ := id hO9
        obtain ⟨-, -, -, be, -, hse, -⟩ := id hE0
        obtain ⟨tg, htg⟩ : ∃ tg, tg = (vof (rdX g) nEtag).getD [] := ⟨_, rfl⟩
        rw [← htg] at hy
        have htl9 := hy.2.2.1
        have hetg : (tg = [] ∧ etg (rdX g) = none) ∨ (tg ≠ [] ∧ etg (rdX g) = some tg) := by
          rw [htg]
          unfold etg
          cases h : vof (rdX g) nEtag with
          | none => exact Or.inl ⟨rfl, rfl⟩
          | some v =>
            cases v with
            | nil => exact Or.inl ⟨rfl, rfl⟩
            | cons d v => exact Or.inr ⟨(fun z => by cases z), rfl⟩
        have l60 : ∀ (fuel : Nat) , 0 < fuel → (agnOk g t9 = true) → ∀ (H : Heap) (locs : List Loc) (ls : Array Slot) (k n : Nat), va_S (AC G H0) H0 H locs → Ob G H x 0 [.ref tp, .ref th, .ref rq, .ref wi, .int (iI 0), .int (iI ((rdT (gTape g)).1)), .int (iI (gTime g)), .int (iI (gUse g : Int))] → Ob G H th 8 [.int (iI mz), .ref ed, .int (iI ↑as.length)] → EDok G H ed as cap → Ai G H tp 100 (gTape g ++ pad) → Ob G H a9 4 [.int (iI (tPath t9)), .ref e0, .ref v0, .ref w0, .ref co0, .int (iI (tLife t9)), .int (iI (tAge t9)), .int (iI (tSince t9)), .int (iI (tUsed t9 : Int))] → (HR G (PC G x tp th ed as rs) H rq rs M c9) → (HR G (PC G x tp th ed as rs) H h9 rs9 (mrg (rdX g)) cs9) → (CTs G (PC G x tp th ed as rs) H as (gTs g)) → (Ct G (PC G x tp th ed as rs) H wi (ctL (vof (gReq g) nCc))) → (St G (PC G x tp th ed as rs) H e0 (tEtag t9)) → (LSt G (PC G x tp th ed as rs) H v0 (tVary t9)) → (LSt G (PC G x tp th ed as rs) H w0 ((tVals t9).map lsO)) → (Ct G (PC G x tp th ed as rs) H co0 (ctL (tCc t9))) → (k + 13 * N + 40 ≤ mc) → (n + 50 * N + 520 ≤ ms) → lv_has ls 5 [(0, .ref x), (2, .ref h9), (3, .ref a9)] → W p l e ⟨20, mc, ms, 455⟩ s m args below meth c H locs k n Q (F0 m 60 ls []) := by
          intro fuel
          induction fuel with
          | zero => intro  hf9; exact absurd hf9 (Nat.not_lt_zero _)
          | succ fuel ih_l60 =>
            intro  hf9 hag9 H locs ls k n hS hx1 hth hed htp hOt hHR hHn hC hCw hE0 hV0 hW0 hK0 hr1 hr2 hl
            have hVc : hdV (mrg (rdX g)) nCc = vof (rdX g) nCc := (mrg_ok (rdX g) nCc).2
            have hVl := hdV_tsz (mrg (rdX g)) nCc
            have l90 : ∀ (fuel : Nat) (co9 : Nat), 0 < fuel → ∀ (H : Heap) (locs : List Loc) (ls : Array Slot) (k n : Nat), va_S (AC G H0) H0 H locs → Ob G H x 0 [.ref tp, .ref th, .ref rq, .ref wi, .int (iI 0), .int (iI ((rdT (gTape g)).1)), .int (iI (gTime g)), .int (iI (gUse g : Int))] → Ob G H th 8 [.int (iI mz), .ref ed, .int (iI ↑as.length)] → EDok G H ed as cap → Ai G H tp 100 (gTape g ++ pad) → Ob G H a9 4 [.int (iI (tPath t9)), .ref e0, .ref v0, .ref w0, .ref co0, .int (iI (tLife t9)), .int (iI (tAge t9)), .int (iI (tSince t9)), .int (iI (tUsed t9 : Int))] → (HR G (PC G x tp th ed as rs) H rq rs M c9) → (HR G (PC G x tp th ed as rs) H h9 rs9 (mrg (rdX g)) cs9) → (CTs G (PC G x tp th ed as rs) H as (gTs g)) → (Ct G (PC G x tp th ed as rs) H wi (ctL (vof (gReq g) nCc))) → (St G (PC G x tp th ed as rs) H e0 (tEtag t9)) → (LSt G (PC G x tp th ed as rs) H v0 (tVary t9)) → (LSt G (PC G x tp th ed as rs) H w0 ((tVals t9).map lsO)) → (Ct G (PC G x tp th ed as rs) H co9 (ctL (agnV t9 (vof (rdX g) nCc)))) → (k ≤ mc) → (n ≤ ms) → lv_has ls 5 [(0, .ref x), (2, .ref h9), (3, .ref a9)] → W p l e ⟨20, mc, ms, 455⟩ s m args below meth c H locs k n Q (F0 m 90 ls [.ref co9, .ref a9]) := by
              intro fuel
              induction fuel with
              | zero => intro co9 hf9; exact absurd hf9 (Nat.not_lt_zero _)
              | succ fuel ih_l90 =>
                intro co9 hf9  H locs ls k n hS hx1 hth hed htp hOt hHR hHn hC hCw hE0 hV0 hW0 hK9 hr1 hr2 hl
                have hvo := hHn.och nCc
                rw [hVc] at hvo
                have hva : ochs (agnV t9 (vof (rdX g) nCc)) ∧ olen (agnV t9 (vof (rdX g) nCc)) 40000 := by
                  unfold agnV
                  split
                  · exact ho9.2.2.2.2.2.2.2.2.2.1
                  · exact ⟨hvo.1, fun y hy => Nat.le_trans (hvo.2 y hy) (by omega)⟩
                have hAa := AC.a g6 ham (hm8 a9 ham)
                have hax9 : a9 ≠ x := hOt.cl.ne hx1.cl cx.kk rfl
                have hath : th ≠ a9 := hth.cl.ne hOt.cl cx.kk rfl
                have hatp : tp ≠ a9 := htp.cl.ne hOt.cl cx.kk rfl
                have haed : ed ≠ a9 := hed.ne cx.kk hOt.cl (hm8 a9 ham) rfl
                have hx8 := hx1
                have ht8 := hth
                have hp8 := htp
                have he8 := hed
                refine lv_aload_n hx hb dX1_again_90 rfl (lv_at hl 1 rfl) ?_
                refine lv_aload_n hx hb dX1_again_91 rfl (lv_at hl 0 rfl) ?_
                refine z_get cx (k0 := 6) hx1 rfl in_X1 (by decide) q678 rfl rfl dX1_again_92 ?_
                refine z_callVv cx (j := 3) (m_X7_tell G l _ (PC G x tp th ed as rs) a9 co9 h9 rs9 (mrg (rdX g)) cs9 (ctL (agnV t9 (vof (rdX g) nCc))) (gTime g) (.int (iI (tPath t9))) (.ref e0) (.ref v0) (.ref w0) (.ref co0) (.int (iI (tLife t9))) (.int (iI (tAge t9))) (.int (iI (tSince t9))) (.int (iI (tUsed t9 : Int))) (hB.ofS hS hBA) (hm8 a9 ham) hOt hK9 hHn (fun q z e => z.2.2.2.2.1 (e ▸ ham)) (ctL_v _) (by omega) (mc := 0) (ms := 0)) (lw_V q926 q927 q928 q60 q929) (zrecv cx hOt rfl) (by decide +kernel) rfl (rest := []) rfl hl (Nat.le_of_ble_eq_true rfl) (by decide) (by omega) dX1_again_95 hS (fun q h => by rcases h with h | h; exact Or.inl (Nat.le_trans hS.1 h); exact h ▸ hAa) (fun H locs hp95 hz9 hk9 hS => ?_)
                have hOt := hp95
                rw [lifeX_eq, ageX_eq] at hOt
                have kf : ∀ q : Nat, q < _ → q ≠ a9 → H[q]? = _ := fun q h1 h2 => hk9 q h1 (by rintro (z | z); exact absurd h1 (Nat.not_lt.mpr z); exact h2 z)
                have kp1 : Kp (PC G x tp th ed as rs) _ (PC G x tp th ed as rs) H := fun q h1 h2 => ⟨h2, kf q h1 (fun z => h2.2.2.2.2.1 (z ▸ ham))⟩
                have hx1 := hx8.kept (kf x hx8.lt hax9.symm)
                have hth := ht8.kept (kf th ht8.lt hath)
                have htp := hp8.kept (kf tp hp8.lt hatp)
                have hed := he8.kept (fun h1 hb => kf ed h1 haed)
                have hHR := hHR.kp cx.kk.1 kp1 (fun r hr => kf r (hHR.rcl r hr).lt (fun e => har a9 ham (e ▸ hr)))
                have hCw := hCw.kp cx.kk.1 kp1
                have hE0 := hE0.kp kp1
                have hV0 := hV0.kp cx.kk.1 kp1
                have hW0 := hW0.kp cx.kk.1 kp1
                have hK9 := hK9.kp cx.kk.1 kp1
                have hok9 : ThOk (agnT g t9) := by rw [agnT_eq]; exact tmT_ok (ccT_ok ho9 hva) (rdX g) hok.2.2.2.1
                have hC := hC.upd cx.kk.1 ha9 hm3 kp1 (fun b hb hne => by obtain ⟨t, ht⟩ := hC.get hb; exact kf b ht.lt hne) (t := agnT g t9) ⟨hok9, e0, v0, w0, co9, hOt, hE0, hV0, hW0, hK9⟩
                clear hk9 hz9 kf kp1
                refine lv_aload_n hx hb dX1_again_98 rfl (lv_at hl 0 rfl) ?_
                refine lv_aload_n hx hb dX1_again_99 rfl (lv_at hl 2 rfl) ?_
                have hx8 := hx1
                have ht8 := hth
                have hp8 := htp
                have he8 := hed
                have ho8 := hOt
                refine z_callVv cx (j := 1) (m_X1_use G l _ x a9 (gUse g : Int) (.ref tp) (.ref th) (.ref rq) (.ref wi) (.int (iI 0)) (.int (iI (rdT (gTape g)).1)) (.int (iI (gTime g))) (.int (iI (tPath t9))) (.ref e0) (.ref v0) (.ref w0) (.ref co9) (.int (iI (lifeOf (wrd (agnV t9 (vof (rdX g) nCc)) nSm) (wrd (agnV t9 (vof (rdX g) nCc)) nMa) (rdX g)))) (.int (iI (ageIn (rdX g)))) (.int (iI (gTime g))) (.int (iI (tUsed t9 : Int))) hx1 hOt (mc := 0) (ms := 0)) (lw_V q863 q865 qs14 q32 q866) (zrecv cx hx1 rfl) (by decide +kernel) rfl (rest := []) rfl hl (Nat.le_of_ble_eq_true rfl) (by decide) (by omega) dX1_again_100 hS (fun q h => by rcases h with h | h | h; exact Or.inl (Nat.le_trans hS.1 h); exact h ▸ hAx; exact h ▸ hAa) (fun H locs hp100 hz9 hk9 hS => ?_)
                obtain ⟨hx1, hOt⟩ := hp100
                have kf : ∀ q : Nat, q < _ → q ≠ x → q ≠ a9 → H[q]? = _ := fun q h1 h2 h3 => hk9 q h1 (by rintro (z | z | z); exact absurd h1 (Nat.not_lt.mpr z); exact h2 z; exact h3 z)
                have kp1 : Kp (PC G x tp th ed as rs) _ (PC G x tp th ed as rs) H := fun q h1 h2 => ⟨h2, kf q h1 h2.1 (fun z => h2.2.2.2.2.1 (z ▸ ham))⟩
                have hxth : th ≠ x := ht8.cl.ne hx8.cl cx.kk rfl
                have hxtp : tp ≠ x := hp8.cl.ne hx8.cl cx.kk rfl
                have hxed : ed ≠ x := he8.ne cx.kk hx8.cl hm5 rfl
                have hax : ∀ a ∈ as, a ≠ x := fun a ha => by obtain ⟨t, ht⟩ := hC.get ha; exact ht.cl.ne hx8.cl cx.kk rfl
                have hth := ht8.kept (kf th ht8.lt hxth hath)
                have htp := hp8.kept (kf tp hp8.lt hxtp hatp)
                have hed := he8.kept (fun h1 hb => kf ed h1 hxed haed)
                have hHR := hHR.kp cx.kk.1 kp1 (fun r hr => kf r (hHR.rcl r hr).lt (fun e => hxr (e ▸ hr)) (fun e => har a9 ham (e ▸ hr)))
                have hCw := hCw.kp cx.kk.1 kp1
                have hC := hC.upd cx.kk.1 ha9 hm3 kp1 (fun b hb hne => by obtain ⟨t, ht⟩ := hC.get hb; exact kf b ht.lt (hax b hb) hne) (t := useT (agnT g t9) (gUse g + 1)) ⟨useT_ok hok9 (by omega), e0, v0, w0, co9, hOt, hE0.kp kp1, hV0.kp cx.kk.1 kp1, hW0.kp cx.kk.1 kp1, hK9.kp cx.kk.1 kp1⟩
                clear hk9 hz9 kf kp1
                refine lv_aload_n hx hb dX1_again_103 rfl (lv_at hl 0 rfl) ?_
                refine z_get cx (k0 := 1) hx1 rfl in_X1 (by decide) q673 rfl rfl dX1_again_104 ?_
                refine lv_aload_n hx hb dX1_again_107 rfl (lv_at hl 2 rfl) ?_
                have hx8 := hx1
                have hp8 := htp
                have ho8 := hOt
                have hnth : ∀ r ∈ rs, r ≠ th := fun r hr e => hthr (e ▸ hr)
                have hned : ∀ r ∈ rs, r ≠ ed := fun r hr e => hedr (e ▸ hr)
                have htpth : tp ≠ th := htp.cl.ne hth.cl cx.kk rfl
                have htped : ed ≠ tp := hed.ne cx.kk htp.cl hm6 rfl
                have hanth : ∀ a ∈ as, a ≠ th := fun a ha => by obtain ⟨t, ht⟩ := hC.get ha; exact ht.cl.ne hth.cl cx.kk rfl
                have haned : ∀ a ∈ as, ed ≠ a := fun a ha => by obtain ⟨t, ht⟩ := hC.get ha; exact hed.ne cx.kk ht.cl (hm8 a ha) rfl
                have hIl := (List.getElem?_eq_some_iff.mp ha9).1
                refine z_callV cx (j := 1) (m_J2_remove_2 G l _ th ed cap I a9 mz as _ (hB.ofS hS hBA) hm7 hth hed (hC.el cx.kk) ⟨hIl, by omega⟩ hOt ha9 (fun j hj hz => nodup_ne hm3 ha9 hz (by omega) rfl) (mc := 0) (ms := 0)) (lw_V q1082 q1083 q1084 q35 q1085) (zrecv cx hth rfl) (by decide +kernel) rfl (rest := []) rfl hl (Nat.le_of_ble_eq_true rfl) (by decide) (by omega) dX1_again_108 hS (fun q h => by rcases h with h | h | h; exact Or.inl (Nat.le_trans hS.1 h); exact h ▸ hAth; exact h.2 ▸ hAed (h.2 ▸ h.1)) (fun v108 H locs hp108 hz9 hk9 hS => ?_)
                obtain ⟨rfl, hth, hed⟩ := hp108
                have kp1 := PC.kl (x := x) (tp := tp) (as := as) (rs := rs) hk9
                have hx1 := hx8.kept (kq_ne hk9 hx8.lt hxth.symm (fun _ => hxed.symm))
                have htp := hp8.kept (kq_ne hk9 hp8.lt htpth (fun _ => htped.symm))
                have hOt := ho8.kept (kq_ne hk9 ho8.lt hath.symm (fun _ => haed.symm))
                have hHR := hHR.kp cx.kk.1 kp1 (fun r hr => kq_ne hk9 (hHR.rcl r hr).lt (hnth r hr) (fun _ => hned r hr))
                have hCw := hCw.kp cx.kk.1 kp1
                have hCa := hC.kp cx.kk.1 kp1 (fun a ha => by obtain ⟨t, ht⟩ := hC.get ha; exact kq_ne hk9 ht.lt (hanth a ha) (fun _ => (haned a ha).symm))
                have hnew := hCa.2 I a9 _ ha9 (by rw [List.getElem?_set_self (by rw [List.length_set, ← hlen]; exact hIl)])
                have hC := hCa.rm I
                clear hk9 hz9 kp1
                have hrl9 : (rmi as I).length = as.length - 1 := rmi_len hIl
                have hncap : ¬ (rmi as I).length = cap := by have h7 := g3.le; rw [hrl9]; clear hone; omega
                rw [← hrl9] at hth
                refine lv_pop hx hb dX1_again_111 rfl ?_
                refine lv_aload_n hx hb dX1_again_112 rfl (lv_at hl 0 rfl) ?_
                refine z_get cx (k0 := 1) hx1 rfl in_X1 (by decide) q673 rfl rfl dX1_again_113 ?_
                refine lv_aload_n hx hb dX1_again_116 rfl (lv_at hl 2 rfl) ?_
                have hx8 := hx1
                have hp8 := htp
                have ho8 := hOt
                refine z_callV cx (j := 1) (m_J2_add G l _ th ed cap a9 (mz + 1) (rmi as I) (hB.ofS hS hBA) hm7 hth hed (hC.el cx.kk) (El.ob cx.kk hOt rfl q1431) (by omega) (mc := 0) (ms := 0) (by rw [if_neg hncap]; exact Nat.le_refl _) (by rw [if_neg hncap]; exact Nat.le_refl _)) (lw_V q498 q499 q500 q35 q501) (zrecv cx hth rfl) (by decide +kernel) rfl (rest := []) rfl hl (Nat.le_of_ble_eq_true rfl) (by decide) (by omega) dX1_again_117 hS (fun q h => by rcases h with h | h | h; exact Or.inl (Nat.le_trans hS.1 h); exact h ▸ hAth; exact h.2 ▸ hAed (h.2 ▸ h.1)) (fun v117 H locs hp117 hz9 hk9 hS => ?_)
                obtain ⟨rfl, d, hd, hth, hed⟩ := hp117
                rw [if_neg hncap] at hed
                have hsub : ∀ b ∈ rmi as I ++ [a9], b ∈ as := fun b hb => by
                  rcases List.mem_append.mp hb with z | z
                  · exact rmi_mem z
                  · rw [List.mem_singleton.mp z]; exact ham
                have kp2 : Kp (PC G x tp th ed as rs) _ (PC G x tp th d (rmi as I ++ [a9]) rs) H := fun q h1 h2 => ⟨⟨h2.1, h2.2.1, h2.2.2.1, fun hb e => by
                  rcases hd with z | z
                  · exact h2.2.2.2.1 hb (e.trans z.1)
                  · omega, fun z => h2.2.2.2.2.1 (hsub q z), h2.2.2.2.2.2⟩, kq_ne hk9 h1 h2.2.2.1 h2.2.2.2.1⟩
                have hx1 := hx8.kept (kq_ne hk9 hx8.lt hxth.symm (fun _ => hxed.symm))
                have htp := hp8.kept (kq_ne hk9 hp8.lt htpth (fun _ => htped.symm))
                have hHR := hHR.kp cx.kk.1 kp2 (fun r hr => kq_ne hk9 (hHR.rcl r hr).lt (hnth r hr) (fun _ => hned r hr))
                have hCw := hCw.kp cx.kk.1 kp2
                have hC := (hC.kp cx.kk.1 kp2 (fun a ha => by obtain ⟨t, ht⟩ := hC.get ha; exact kq_ne hk9 ht.lt (hanth a (rmi_mem ha)) (fun _ => (haned a (rmi_mem ha)).symm))).snoc (hnew.kp cx.kk.1 kp2 (kq_ne hk9 ho8.lt hath.symm (fun _ => haed.symm)))
                have e4 : (rmi as I).length + 1 = (rmi as I ++ [a9]).length := by rw [List.length_append, List.length_singleton]
                rw [e4] at hth
                rw [hrd.1] at hx1
                rw [hM] at hHR
                rw [List.set_set, rmi_set] at hC
                have hSe : agnS g p0 = ([], -1, gTime g, gReq g, rmi (gTs g) I ++ [useT (agnT g t9) (gUse g + 1)], gUse g + 1) := by rw [agnS, if_pos (hAg.trans hag9), hI, Int.toNat_natCast, ht9]
                refine lv_pop hx hb dX1_again_120 rfl ?_
                refine lv_iconst (v := iI (1)) hx hb dX1_again_121 rfl ?_
                subst hQ
                exact vx_ret (z_iret cx rfl rfl rfl (⟨hrd9, by rw [hAg, hag9]; rfl, by rw [← hc9, hSe]; exact ⟨tp, th, d, cap, rq, wi, _, rmi as I ++ [a9], rs, gTape g ++ pad, hx1, ⟨htp, hth, hed, hHR, hCw, hC⟩, ⟨⟨by show 0 + (gTape g ++ pad).length = 300; rw [List.length_append, Nat.zero_add]; exact hm1, fun c hc => (List.mem_append.mp hc).elim (hok.1 c) (hpd c)⟩, hm2, nd_snoc (rmi_nd hm3 I) (rmi_not hm3 ha9), hm4, hm5, hm6, hm7, fun b hb => hm8 b (hsub b hb), hm9⟩, ⟨chs_nil, Nat.zero_le _, by show -1 ≤ (-1 : Int) ∧ (-1 : Int) ≤ 300; decide, hok.2.2.2.1, by show (rmi (gTs g) I ++ [useT (agnT g t9) (gUse g + 1)]).length ≤ 24; rw [List.length_append, rmi_len (by omega), List.length_singleton]; omega, by show gUse g + 1 < 100000; omega⟩, by show tsz (mrg (gReq g)) ≤ 300; rw [← hM]; exact htz⟩⟩) hS (by omega) dX1_again_122)
            obtain ⟨L9, ed9, cap9, mz9, hPh, hPL, hPe, hh9, hL9, hed9, hcap9, hN9'⟩ := id hHn
            refine lv_aload_n hx hb dX1_again_60 rfl (lv_at hl 2 rfl) ?_
            refine lv_aload_n hx hb dX1_again_61 rfl (lv_at hl 1 rfl) ?_
            obtain ⟨la62, ltx, lR, lS62⟩ := lit_X1_152 cx.kk.1
            refine z_ldcS cx lR dX1_again_62 ?_
            refine z_callV cx (j := 1) (m_X2_has G l _ (PC G x tp th ed as rs) (Old G) h9 L9 ed9 cap9 la62 (.int (iI mz9)) rs9 (mrg (rdX g)) cs9 nCc (hB.ofS hS hBA) hh9 hL9 hed9 hN9' (by omega) (lS62.old (hB.ofS hS hBA)) (mc := 0) (ms := 0)) (lw_V q876 q877 q878 q36 q879) (zrecv cx hh9 rfl) (by decide +kernel) rfl (rest := [.ref a9]) rfl hl (Nat.le_of_ble_eq_true rfl) (by decide) (by omega) dX1_again_64 hS (fun q h => Or.inl (Nat.le_trans hS.1 h)) (fun v64 H locs hp64 hz9 hk9 hS => ?_)
            have hE9 := Ext.of hz9 hk9 (fun q h => h)
            have hx1 := hx1.ext hE9
            have hth := hth.ext hE9
            have hed := hed.ext hE9
            have htp := htp.ext hE9
            have hOt := hOt.ext hE9
            have hh9 := hh9.ext hE9
            have hb64 := b2i_rg (decide (hdV (mrg (rdX g)) nCc ≠ none))
            subst hp64
            have hHR := hHR.ext cx.kk.1 hE9
            have hHn := hHn.ext cx.kk.1 hE9
            have hC := hC.ext cx.kk.1 hE9
            have hCw := hCw.ext cx.kk.1 hE9
            have hV0 := hV0.ext cx.kk.1 hE9
            have hW0 := hW0.ext cx.kk.1 hE9
            have hK0 := hK0.ext cx.kk.1 hE9
            have hE0 := hE0.ext hE9
            refine z_if_eq cx (tgt := 86) dX1_again_67 (by decide) (by omega) (fun c67 => ?_) (fun c67 => ?_)
            · have hv := Classical.not_not.mp (b2i_F c67)
              have hav : agnV t9 (vof (rdX g) nCc) = tCc t9 := by rw [agnV, if_pos (by rw [← hVc]; exact hv)]
              refine lv_aload_n hx hb dX1_again_86 rfl (lv_at hl 2 rfl) ?_
              refine z_getN cx (k0 := 4) hOt rfl in_X7 (by decide) q901 rfl rfl dX1_again_87 ?_
              exact l90 _ co0 (Nat.lt_succ_self _)  _ _ _ _ _ hS hx1 hth hed htp hOt hHR hHn hC hCw hE0 hV0 hW0 (by rw [hav]; exact hK0) (by omega) (by omega) (lv_sub hl [0, 1, 2] rfl)
            · have hv := b2i_T c67
              have hav : agnV t9 (vof (rdX g) nCc) = vof (rdX g) nCc := by rw [agnV, if_neg (by rw [← hVc]; exact hv)]
              obtain ⟨z9, hz10⟩ : ∃ z, z = H.size := ⟨_, rfl⟩
              have hgs5 := hS.1
              have hb1 : ∀ r ∈ rs, r < z9 := fun r hr => by have := hrl r hr; omega
              have hb2 : ∀ r ∈ rs9, r < z9 := fun r hr => by have := (hHn.rcl r hr).lt; omega
              have hb3 : ∀ a ∈ as, a < z9 := fun a ha => by have := hal a ha; omega
              have kf : ∀ q : Nat, q < z9 → H[q]? = H[q]? := fun _ _ => rfl
              have hHR := hHR.kp (P' := (fun q => PC G x tp th ed as rs q ∧ q < z9)) cx.kk.1 (Kp.weak (fun q h1 h2 => ⟨h2, by omega⟩)) (fun r hr => kf r (hb1 r hr))
              have hHn := hHn.kp (P' := (fun q => PC G x tp th ed as rs q ∧ q < z9)) cx.kk.1 (Kp.weak (fun q h1 h2 => ⟨h2, by omega⟩)) (fun r hr => kf r (hb2 r hr))
              have hC := hC.kp (P' := (fun q => PC G x tp th ed as rs q ∧ q < z9)) cx.kk.1 (Kp.weak (fun q h1 h2 => ⟨h2, by omega⟩)) (fun a ha => kf a (hb3 a ha))
              have hCw := hCw.kp (P' := (fun q => PC G x tp th ed as rs q ∧ q < z9)) cx.kk.1 (Kp.weak (fun q h1 h2 => ⟨h2, by omega⟩))
              have hV0 := hV0.kp (P' := (fun q => PC G x tp th ed as rs q ∧ q < z9)) cx.kk.1 (Kp.weak (fun q h1 h2 => ⟨h2, by omega⟩))
              have hW0 := hW0.kp (P' := (fun q => PC G x tp th ed as rs q ∧ q < z9)) cx.kk.1 (Kp.weak (fun q h1 h2 => ⟨h2, by omega⟩))
              have hK0 := hK0.kp (P' := (fun q => PC G x tp th ed as rs q ∧ q < z9)) cx.kk.1 (Kp.weak (fun q h1 h2 => ⟨h2, by omega⟩))
              have hE0 := hE0.kp (P' := (fun q => PC G x tp th ed as rs q ∧ q < z9)) (Kp.weak (fun q h1 h2 => ⟨h2, by omega⟩))
              refine z_new cx (ci := 2) (vs := [.null, .null]) hS rfl in_X3 tyX3_ok q114 q115 q37 (zdefX3) (by omega) dX1_again_70 (fun co H hco hgco Aco hz9 hE9 hS => ?_)
              have hx1 := hx1.ext hE9
              have hth := hth.ext hE9
              have hed := hed.ext hE9
              have htp := htp.ext hE9
              have hOt := hOt.ext hE9
              have hh9 := hh9.ext hE9
              have hHR := hHR.ext cx.kk.1 hE9
              have hHn := hHn.ext cx.kk.1 hE9
              have hC := hC.ext cx.kk.1 hE9
              have hCw := hCw.ext cx.kk.1 hE9
              have hV0 := hV0.ext cx.kk.1 hE9
              have hW0 := hW0.ext cx.kk.1 hE9
              have hK0 := hK0.ext cx.kk.1 hE9
              have hE0 := hE0.ext hE9
              obtain ⟨L9, ed9, cap9, mz9, hPh, hPL, hPe, hh9, hL9, hed9, hcap9, hN9'⟩ := id hHn
              refine lv_dup hx hb dX1_again_73 rfl ?_
              refine lv_aload_n hx hb dX1_again_74 rfl (lv_at hl 1 rfl) ?_
              obtain ⟨la75, ltx, lR, lS75⟩ := lit_X1_152 cx.kk.1
              refine z_ldcS cx lR dX1_again_75 ?_
              refine z_callV cx (j := 1) (m_X2_value G l _ (fun q => PC G x tp th ed as rs q ∧ q < z9) (Old G) h9 L9 ed9 cap9 la75 (.int (iI mz9)) rs9 (mrg (rdX g)) cs9 nCc (hB.ofS hS hBA) hh9 hL9 hed9 hN9' (by omega) (lS75.old (hB.ofS hS hBA)) (mc := 0) (ms := 0)) (lw_V q796 q797 q798 q36 q799) (zrecv cx hh9 rfl) (by decide +kernel) rfl (rest := [.ref co, .ref co, .ref a9]) rfl hl (Nat.le_of_ble_eq_true rfl) (by decide) (by omega) dX1_again_77 hS (fun q h => Or.inl (Nat.le_trans hS.1 h)) (fun v77 H locs hp77 hz9 hk9 hS => ?_)
              have hE9 := Ext.of hz9 hk9 (fun q h => h)
              obtain ⟨o9, rfl, ho⟩ := hp77
              have hx1 := hx1.ext hE9
              have hth := hth.ext hE9
              have hed := hed.ext hE9
              have htp := htp.ext hE9
              have hOt := hOt.ext hE9
              have hh9 := hh9.ext hE9
              have Aco := Aco.ext hE9
              have hHR := hHR.ext cx.kk.1 hE9
              have hHn := hHn.ext cx.kk.1 hE9
              have hC := hC.ext cx.kk.1 hE9
              have hCw := hCw.ext cx.kk.1 hE9
              have hV0 := hV0.ext cx.kk.1 hE9
              have hW0 := hW0.ext cx.kk.1 hE9
              have hK0 := hK0.ext cx.kk.1 hE9
              have hE0 := hE0.ext hE9
              have hx8 := hx1
              have ht8 := hth
              have hp8 := htp
              have he8 := hed
              have ho8 := hOt
              have hc0 := Aco
              have hel9 := hed.edlt cx.kk.1
              refine z_callI cx (j := 1) (m_X3_init G l _ (fun q => PC G x tp th ed as rs q ∧ q < z9) co o9 (hdV (mrg (rdX g)) nCc) (hB.ofS hS hBA) (by omega) Aco ho (by omega) (fun q z => by have := z.2; omega) (mc := 13 * N + 30) (ms := 50 * N + 500) (by omega) (by omega)) (lw_meth q118) q37 q116 q117 rfl (by decide +kernel) rfl (rest := [.ref co, .ref a9]) rfl hl (Nat.le_of_ble_eq_true rfl) (by decide) (by omega) dX1_again_80 hS (fun q h => by rcases h with h | h; exact Or.inl (Nat.le_trans hS.1 h); exact Or.inl (by omega)) (fun H locs hp80 hz9 hk9 hS => ?_)
              have hCt := hp80
              have kf : ∀ q : Nat, q < z9 → H[q]? = _ := fun q hq => hk9 q (by have := hc0.lt; omega) (by have := hc0.lt; rintro (z | z) <;> omega)
              have hx1 := hx8.kept (kf x (by omega))
              have hth := ht8.kept (kf th (by have := g2.lt; omega))
              have htp := hp8.kept (kf tp (by have := g1.lt; omega))
              have hed := he8.kept (fun _ hb => kf ed (by have := hel hb; omega))
              have hOt := ho8.kept (kf a9 (hb3 a9 ham))
              have hHR := hHR.kp (P' := (PC G x tp th ed as rs)) cx.kk.1 (fun q h1 h2 => ⟨h2.1, kf q h2.2⟩) (fun r hr => kf r (hb1 r hr))
              have hHn := hHn.kp (P' := (PC G x tp th ed as rs)) cx.kk.1 (fun q h1 h2 => ⟨h2.1, kf q h2.2⟩) (fun r hr => kf r (hb2 r hr))
              have hC := hC.kp (P' := (PC G x tp th ed as rs)) cx.kk.1 (fun q h1 h2 => ⟨h2.1, kf q h2.2⟩) (fun a ha => kf a (hb3 a ha))
              have hCw := hCw.kp (P' := (PC G x tp th ed as rs)) cx.kk.1 (fun q h1 h2 => ⟨h2.1, kf q h2.2⟩)
              have hV0 := hV0.kp (P' := (PC G x tp th ed as rs)) cx.kk.1 (fun q h1 h2 => ⟨h2.1, kf q h2.2⟩)
              have hW0 := hW0.kp (P' := (PC G x tp th ed as rs)) cx.kk.1 (fun q h1 h2 => ⟨h2.1, kf q h2.2⟩)
              have hK0 := hK0.kp (P' := (PC G x tp th ed as rs)) cx.kk.1 (fun q h1 h2 => ⟨h2.1, kf q h2.2⟩)
              have hE0 := hE0.kp (P' := (PC G x tp th ed as rs)) (fun q h1 h2 => ⟨h2.1, kf q h2.2⟩)
              have hCt := hCt.kp (P' := (PC G x tp th ed as rs)) cx.kk.1 (Kp.weak (fun q _ z => hPn q (by have := hc0.lt; rcases z with z | z | z <;> omega)))
              clear hk9 hz9 kf
              refine lv_goto (tgt := 90) hx hb dX1_again_83 (by decide) ?_
              exact l90 _ co (Nat.lt_succ_self _)  _ _ _ _ _ hS hx1 hth hed htp hOt hHR hHn hC hCw hE0 hV0 hW0 (by rw [hav, ← hVc]; exact hCt) (by omega) (by omega) (lv_sub hl [0, 1, 2] rfl)
        refine lv_aload_n hx hb dX1_again_34 rfl (lv_at hl 4 rfl) ?_
        refine lv_ifnull hx hb dX1_again_35 ?_
        refine lv_aload hx hb dX1_again_38 (lv_at hl 0 rfl) ?_
        refine z_callV cx (j := 0) (m_J5_length G l _ _ y9 tg (hB.ofS hS hBA) hy (mc := 0) (ms := 0)) (lw_V q156 q157 q158 q40 q159) (zrecvS cx hs8) (by decide +kernel) rfl (rest := []) rfl hl (Nat.le_of_ble_eq_true rfl) (by decide) (by omega) dX1_again_40 hS (fun q h => Or.inl (Nat.le_trans hS.1 h)) (fun v40 H locs hp40 hz9 hk9 hS => ?_)
        have hE9 := Ext.of hz9 hk9 (fun q h => h)
        have hx1 := hx1.ext hE9
        have hth := hth.ext hE9
        have hed := hed.ext hE9
        have htp := htp.ext hE9
        have hOt := hOt.ext hE9
        have hs8 := hs8.ext hE9
        subst hp40
        have hHR := hHR.ext cx.kk.1 hE9
        have hHn := hHn.ext cx.kk.1 hE9
        have hC := hC.ext cx.kk.1 hE9
        have hCw := hCw.ext cx.kk.1 hE9
        have hE0 := hE0.ext hE9
        have hV0 := hV0.ext cx.kk.1 hE9
        have hW0 := hW0.ext cx.kk.1 hE9
        have hK0 := hK0.ext cx.kk.1 hE9
        have hy := hy.ext hE9
        refine z_if_le cx (tgt := 60) dX1_again_43 (by decide) (by omega) (fun c43 => ?_) (fun c43 => ?_)
        · have htn : tg = [] := List.eq_nil_of_length_eq_zero (by omega)
          exact l60 _  (Nat.lt_succ_self _) (by rw [agnOk]; refine decide_eq_true (Or.inl ?_); rcases hetg with z | z; exact z.2; exact absurd htn z.1) _ _ _ _ _ hS hx1 hth hed htp hOt hHR hHn hC hCw hE0 hV0 hW0 hK0 (by omega) (by omega) (lv_sub hl [1, 3, 4] rfl)
        · have htn : tg ≠ [] := fun z => by rw [z] at c43; exact absurd c43 (Int.lt_irrefl 0)
          have het : etg (rdX g) = some tg := by rcases hetg with z | z; exact absurd z.1 htn; exact z.2
          refine lv_aload hx hb dX1_again_46 (lv_at hl 0 rfl) ?_
          refine lv_aload_n hx hb dX1_again_48 rfl (lv_at hl 4 rfl) ?_
          refine z_getN cx (k0 := 1) hOt rfl in_X7 (by decide) q895 rfl rfl dX1_again_49 ?_
          refine z_callV cx (j := 1) (m_J5_equals G l _ _ _ y9 e0 tg (tEtag t9) (hB.ofS hS hBA) hy hE0 (mc := 0) (ms := 0)) (lw_V q823 q628 q629 q40 q630) (zrecvS cx hs8) (by decide +kernel) rfl (rest := []) rfl hl (Nat.le_of_ble_eq_true rfl) (by decide) (by omega) dX1_again_52 hS (fun q h => Or.inl (Nat.le_trans hS.1 h)) (fun v52 H locs hp52 hz9 hk9 hS => ?_)
          have hE9 := Ext.of hz9 hk9 (fun q h => h)
          have hx1 := hx1.ext hE9
          have hth := hth.ext hE9
          have hed := hed.ext hE9
          have htp := htp.ext hE9
          have hOt := hOt.ext hE9
          have hs8 := hs8.ext hE9
          have hb52 := b2i_rg (decide (tg = tEtag t9))
          subst hp52
          have hHR := hHR.ext cx.kk.1 hE9
          have hHn := hHn.ext cx.kk.1 hE9
          have hC := hC.ext cx.kk.1 hE9
          have hCw := hCw.ext cx.kk.1 hE9
          have hE0 := hE0.ext hE9
          have hV0 := hV0.ext cx.kk.1 hE9
          have hW0 := hW0.ext cx.kk.1 hE9
          have hK0 := hK0.ext cx.kk.1 hE9
          refine z_if_ne cx (tgt := 60) dX1_again_55 (by decide) (by omega) (fun c55 => ?_) (fun c55 => ?_)
          · have heq := b2i_T c55
            exact l60 _  (Nat.lt_succ_self _) (by rw [agnOk]; refine decide_eq_true (Or.inr ?_); rw [het, heq, oet, if_neg (heq ▸ htn)]) _ _ _ _ _ hS hx1 hth hed htp hOt hHR hHn hC hCw hE0 hV0 hW0 hK0 (by omega) (by omega) (lv_sub hl [1, 3, 4] rfl)
          · have hne := b2i_F c55
            have hA0 : agnA g p0 = false := by
              rw [hAg, agnOk]
              refine decide_eq_false (fun z => ?_)
              rw [het] at z
              rcases z with z | z
              · cases z
              · unfold oet at z
                split at z
                · cases z
                · exact hne (Option.some.inj z)
            refine lv_iconst (v := iI (0)) hx hb dX1_again_58 rfl ?_
            subst hQ
            exact vx_ret (z_iret cx rfl rfl rfl (⟨hrd9, by rw [hA0]; rfl, by rw [← hc9]; exact hfin _ hA0 hx1 htp hth hed hHR hCw hC⟩) hS (by omega) dX1_again_59)
  obtain ⟨L9, ed9, cap9, mz9, hPh, hPL, hPe, hh9, hL9, hed9, hcap9, hN9'⟩ := id hHn
  refine lv_aload_n hx hb dX1_again_12 rfl (lv_at hl 1 rfl) ?_
  obtain ⟨la13, ltx, lR, lS13⟩ := lit_X1_211 cx.kk.1
  refine z_ldcS cx lR dX1_again_13 ?_
  refine z_callV cx (j := 1) (m_X2_has G l _ (PC G x tp th ed as rs) (Old G) h9 L9 ed9 cap9 la13 (.int (iI mz9)) rs9 (mrg (rdX g)) cs9 nEtag (hB.ofS hS hBA) hh9 hL9 hed9 hN9' (by omega) (lS13.old (hB.ofS hS hBA)) (mc := 0) (ms := 0)) (lw_V q876 q877 q878 q36 q879) (zrecv cx hh9 rfl) (by decide +kernel) rfl (rest := []) rfl hl (Nat.le_of_ble_eq_true rfl) (by decide) (by omega) dX1_again_15 hS (fun q h => Or.inl (Nat.le_trans hS.1 h)) (fun v15 H locs hp15 hz9 hk9 hS => ?_)
  have hE9 := Ext.of hz9 hk9 (fun q h => h)
  have hx1 := hx1.ext hE9
  have hth := hth.ext hE9
  have hed := hed.ext hE9
  have htp := htp.ext hE9
  have hh9 := hh9.ext hE9
  have hb15 := b2i_rg (decide (hdV (mrg (rdX g)) nEtag ≠ none))
  subst hp15
  have hHR := hHR.ext cx.kk.1 hE9
  have hHn := hHn.ext cx.kk.1 hE9
  have hC := hC.ext cx.kk.1 hE9
  have hCw := hCw.ext cx.kk.1 hE9
  refine z_if_eq cx (tgt := 30) dX1_again_18 (by decide) (by omega) (fun c18 => ?_) (fun c18 => ?_)
  · have hv := Classical.not_not.mp (b2i_F c18)
    obtain ⟨la30, ltx, lR, lS30⟩ := lit_X1_205 cx.kk.1
    refine z_ldcS cx lR dX1_again_30 ?_
    exact l32 _ la30 _ (Nat.lt_succ_self _) hone _ _ _ _ _ hS hx1 hth hed htp hHR hHn hC hCw (by rw [← hVe, hv]; exact (lS30.old (hB.ofS hS hBA)).kp (Kp.weak (fun q _ z => hPn q (Or.inr z)))) (by omega) (by omega) (lv_sub hl [2, 3, 1, 0] rfl)
  · have hv := b2i_T c18
    obtain ⟨L9, ed9, cap9, mz9, hPh, hPL, hPe, hh9, hL9, hed9, hcap9, hN9'⟩ := id hHn
    refine lv_aload_n hx hb dX1_again_21 rfl (lv_at hl 1 rfl) ?_
    obtain ⟨la22, ltx, lR, lS22⟩ := lit_X1_211 cx.kk.1
    refine z_ldcS cx lR dX1_again_22 ?_
    refine z_callV cx (j := 1) (m_X2_value G l _ (PC G x tp th ed as rs) (Old G) h9 L9 ed9 cap9 la22 (.int (iI mz9)) rs9 (mrg (rdX g)) cs9 nEtag (hB.ofS hS hBA) hh9 hL9 hed9 hN9' (by omega) (lS22.old (hB.ofS hS hBA)) (mc := 0) (ms := 0)) (lw_V q796 q797 q798 q36 q799) (zrecv cx hh9 rfl) (by decide +kernel) rfl (rest := []) rfl hl (Nat.le_of_ble_eq_true rfl) (by decide) (by omega) dX1_again_24 hS (fun q h => Or.inl (Nat.le_trans hS.1 h)) (fun v24 H locs hp24 hz9 hk9 hS => ?_)
    have hE9 := Ext.of hz9 hk9 (fun q h => h)
    obtain ⟨o, rfl, ho⟩ := hp24
    have hx1 := hx1.ext hE9
    have hth := hth.ext hE9
    have hed := hed.ext hE9
    have htp := htp.ext hE9
    have hh9 := hh9.ext hE9
    have hHR := hHR.ext cx.kk.1 hE9
    have hHn := hHn.ext cx.kk.1 hE9
    have hC := hC.ext cx.kk.1 hE9
    have hCw := hCw.ext cx.kk.1 hE9
    rcases o with _ | o
    · exact absurd ho.n hv
    · obtain ⟨xs, hxs, ho⟩ := ho.s
      refine lv_goto (tgt := 32) hx hb dX1_again_27 (by decide) ?_
      exact l32 _ o _ (Nat.lt_succ_self _) hone _ _ _ _ _ hS hx1 hth hed htp hHR hHn hC hCw (by rw [← hVe, hxs]; exact ho) (by omega) (by omega) (lv_sub hl [2, 3, 1, 0] rfl)
