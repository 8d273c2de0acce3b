/-! ===== rows: references that may be null; names ===== -/
section ZQ2
variable {p : Program} {l : Launch} {e : Env} {F Lw mc ms : Nat} {s : State} {m : MethodId} {args : Array Value} {below : List Frame} {meth : Method} {c : Code} {H : Heap} {locs : List Loc} {k n : Nat} {Q : State → Prop}
variable {cc : ByteArray} {pc : Nat} {ls : Array Slot} {rest : List Value} {own : String} {nL : Nat} {ret : Option FieldType} {G : zE} {H0 : Heap} {A : Nat → Prop}
theorem z_aload_nq (cx : zC p s m args meth c cc own nL ret G H0) {i0 : Fin 4} {i : Nat} {r : Option Nat} (d : decode cc pc = .ok (.aload_n i0, 1)) (hi : (i0 : Nat) = i) (hl : ls[i]? = some (.val (va_rf r))) (kk : W p l e ⟨F, mc, ms, Lw⟩ s m args below meth c H locs k n Q (F0 m (pc + 1) ls (va_rf r :: rest))) : W p l e ⟨F, mc, ms, Lw⟩ s m args below meth c H locs k n Q (F0 m pc ls rest) := by
  cases r with
  | none => exact lv_aload_nN cx.1 cx.2.1 d hi hl kk
  | some a => exact lv_aload_n cx.1 cx.2.1 d hi hl kk
theorem z_aloadq (cx : zC p s m args meth c cc own nL ret G H0) {i : Nat} {r : Option Nat} (d : decode cc pc = .ok (.aload i, 2)) (hl : ls[i]? = some (.val (va_rf r))) (kk : W p l e ⟨F, mc, ms, Lw⟩ s m args below meth c H locs k n Q (F0 m (pc + 2) ls (va_rf r :: rest))) : W p l e ⟨F, mc, ms, Lw⟩ s m args below meth c H locs k n Q (F0 m pc ls rest) := by
  cases r with
  | none => exact lv_aloadN cx.1 cx.2.1 d hl kk
  | some a => exact lv_aload cx.1 cx.2.1 d hl kk
theorem z_astore_nq (cx : zC p s m args meth c cc own nL ret G H0) {i0 : Fin 4} {i nL' : Nat} {r : Option Nat} {lv lv' : List (Nat × Value)} (d : decode cc pc = .ok (.astore_n i0, 1)) (hi : (i0 : Nat) = i) (h : lv_has ls nL' lv) (hn : i < nL') (hl : (i, va_rf r) :: lv.filter (fun q => !(q.1 == i) && !(q.1 + 1 == i && q.2.category == 2)) = lv')
    (kk : ∀ ls' : Array Slot, lv_has ls' nL' lv' → W p l e ⟨F, mc, ms, Lw⟩ s m args below meth c H locs k n Q (F0 m (pc + 1) ls' rest)) : W p l e ⟨F, mc, ms, Lw⟩ s m args below meth c H locs k n Q (F0 m pc ls (va_rf r :: rest)) := by
  cases r with
  | none => exact lv_astore_nN cx.1 cx.2.1 d hi h hn hl kk
  | some a => exact lv_astore_n cx.1 cx.2.1 d hi h hn hl kk
theorem z_astoreq (cx : zC p s m args meth c cc own nL ret G H0) {i nL' : Nat} {r : Option Nat} {lv lv' : List (Nat × Value)} (d : decode cc pc = .ok (.astore i, 2)) (h : lv_has ls nL' lv) (hn : i < nL') (hl : (i, va_rf r) :: lv.filter (fun q => !(q.1 == i) && !(q.1 + 1 == i && q.2.category == 2)) = lv')
    (kk : ∀ ls' : Array Slot, lv_has ls' nL' lv' → W p l e ⟨F, mc, ms, Lw⟩ s m args below meth c H locs k n Q (F0 m (pc + 2) ls' rest)) : W p l e ⟨F, mc, ms, Lw⟩ s m args below meth c H locs k n Q (F0 m pc ls (va_rf r :: rest)) := by
  cases r with
  | none => exact lv_astoreN cx.1 cx.2.1 d h hn hl kk
  | some a => exact lv_astore cx.1 cx.2.1 d h hn hl kk
theorem z_qret (cx : zC p s m args meth c cc own nL ret G H0) {r : Option Nat} {post : Value → Heap → Prop} {rt : FieldType} (hQ : Q = zRQ below post A args s mc ms) (hret : ret = some rt) (hrt : (∃ n, rt = .object n) ∨ ∃ t, rt = .array t) (hp : post (va_rf r) H) (hS : va_S A H0 H locs) (hk : k ≤ mc ∧ n ≤ ms) (d : decode cc pc = .ok (.areturn, 1)) :
    W p l e ⟨F, mc, ms, Lw⟩ s m args below meth c H locs k n Q (F0 m pc ls [va_rf r]) := by
  cases r with
  | none => exact z_nret cx hQ hret hrt hp hS hk d
  | some a => exact z_aret cx hQ hret hrt hp hS hk d
end ZQ2
theorem va_rf_ref (a : Nat) : va_rf (some a) = .ref a := rfl
theorem va_rf_nar {C : FieldType} (r : Option Nat) (h : ∀ v : Value, v.isRef = true → narrow C v = v ∧ fits C v = true) : narrow C (va_rf r) = va_rf r ∧ fits C (va_rf r) = true := by
  cases r with
  | none => exact h _ rfl
  | some a => exact h _ rfl
theorem b2i_fit (b : Bool) : narrow .boolean (.int (iI (b2i b))) = .int (iI (b2i b)) ∧ fits .boolean (.int (iI (b2i b))) = true := by cases b <;> exact ⟨rfl, rfl⟩
def nEtag : List Int := [101, 116, 97, 103]
def nCc : List Int := [99, 97, 99, 104, 101, 45, 99, 111, 110, 116, 114, 111, 108]
def nSm : List Int := [115, 45, 109, 97, 120, 97, 103, 101]
def nMa : List Int := [109, 97, 120, 45, 97, 103, 101]
def nNc : List Int := [110, 111, 45, 99, 97, 99, 104, 101]
def nMr : List Int := [109, 117, 115, 116, 45, 114, 101, 118, 97, 108, 105, 100, 97, 116, 101]
def nPr : List Int := [112, 114, 111, 120, 121, 45, 114, 101, 118, 97, 108, 105, 100, 97, 116, 101]
def nExp : List Int := [101, 120, 112, 105, 114, 101, 115]
def nDate : List Int := [100, 97, 116, 101]
def nAge : List Int := [97, 103, 101]
def nMf : List Int := [109, 105, 110, 45, 102, 114, 101, 115, 104]
def nMs : List Int := [109, 97, 120, 45, 115, 116, 97, 108, 101]
def nOic : List Int := [111, 110, 108, 121, 45, 105, 102, 45, 99, 97, 99, 104, 101, 100]
def nVary : List Int := [118, 97, 114, 121]
def nNs : List Int := [110, 111, 45, 115, 116, 111, 114, 101]
def nPriv : List Int := [112, 114, 105, 118, 97, 116, 101]
/-- a name's row is one of ours, of characters, short -/
def nOk (x : List Int) : Prop := chs x ∧ x.length ≤ 100000
theorem nOk_of {x : List Int} (h : (x.all (fun c => decide (0 ≤ c ∧ c < 128)) && decide (x.length ≤ 100000)) = true) : nOk x := by
  rw [Bool.and_eq_true] at h
  exact ⟨fun c hc => by have := List.all_eq_true.mp h.1 c hc; simpa using this, by simpa using h.2⟩
/-- a word is there -/
def hasW (v : Option (List Int)) (nm : List Int) : Bool := decide (wrd v nm ≠ -2)
def etg (T : Txt) : Option (List Int) := match vof T nEtag with
  | none => none
  | some [] => none
  | some (c :: v) => some (c :: v)
/-- whether one must ask: no-cache, s-maxage, must-revalidate, proxy-revalidate -/
def mka (v : Option (List Int)) : Bool := hasW v nNc || decide (wrd v nSm ≠ -2) || hasW v nMr || hasW v nPr
def btw (T : Txt) : Int := if 0 ≤ nIn T nExp ∧ 0 ≤ nIn T nDate ∧ nIn T nDate < nIn T nExp then nIn T nExp - nIn T nDate else 0
def lifeOf (sm ma : Int) (T : Txt) : Int := if 0 ≤ sm then sm else if 0 ≤ ma then ma else btw T
def ageIn (T : Txt) : Int := if 0 ≤ nIn T nAge then nIn T nAge else 0
theorem nm_etag : nmL 1702125927 0 = nEtag := by decide +kernel
theorem ok_etag : nOk nEtag := nOk_of (by decide +kernel)
theorem nm_cc : nmL 7161114182521021295 474400059244 = nCc := by decide +kernel
theorem ok_cc : nOk nCc := nOk_of (by decide +kernel)
theorem nm_sm : nmL 8299409953712596837 0 = nSm := by decide +kernel
theorem ok_sm : nOk nSm := nOk_of (by decide +kernel)
theorem nm_ma : nmL 30787941246789477 0 = nMa := by decide +kernel
theorem ok_ma : nOk nMa := nOk_of (by decide +kernel)
theorem nm_nc : nmL 7957628971445872741 0 = nNc := by decide +kernel
theorem ok_nc : nOk nNc := nOk_of (by decide +kernel)
theorem nm_mr : nmL 7887337265225164150 27422272652407909 = nMr := by decide +kernel
theorem ok_mr : nOk nMr := nOk_of (by decide +kernel)
theorem nm_pr : nmL 8102661242812723813 8530218369127904357 = nPr := by decide +kernel
theorem ok_pr : nOk nPr := nOk_of (by decide +kernel)
theorem nm_exp : nmL 28561396848551283 0 = nExp := by decide +kernel
theorem ok_exp : nOk nExp := nOk_of (by decide +kernel)
theorem nm_date : nmL 1684108389 0 = nDate := by decide +kernel
theorem ok_date : nOk nDate := nOk_of (by decide +kernel)
theorem nm_age : nmL 6383461 0 = nAge := by decide +kernel
theorem ok_age : nOk nAge := nOk_of (by decide +kernel)
theorem nm_mf : nmL 7883953763960120691 104 = nMf := by decide +kernel
theorem ok_mf : nOk nMf := nOk_of (by decide +kernel)
theorem nm_ms : nmL 7881712959480947052 101 = nMs := by decide +kernel
theorem ok_ms : nOk nMs := nOk_of (by decide +kernel)
theorem nm_oic : nmL 8029474453356897837 109269930763620 = nOic := by decide +kernel
theorem ok_oic : nOk nOic := nOk_of (by decide +kernel)
theorem nm_vary : nmL 1986097785 0 = nVary := by decide +kernel
theorem ok_vary : nOk nVary := nOk_of (by decide +kernel)
theorem nm_ns : nmL 7957629040484905573 0 = nNs := by decide +kernel
theorem ok_ns : nOk nNs := nOk_of (by decide +kernel)
theorem nm_priv : nmL 31650994674824293 0 = nPriv := by decide +kernel
theorem ok_priv : nOk nPriv := nOk_of (by decide +kernel)
