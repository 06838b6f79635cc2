set_option maxRecDepth 100000
theorem ent_l {dA : Nat → ClassId} {ad : Nat → Nat} {h : HT} {pl : Nat} (w : WFH h) (hk : hK h pl = 109) : (PL dA ad h)[pl - 200]? = some (ad pl, .inl (dA 109, hL h pl, .inr (.inl (fun k => (hI h pl k).toInt64)))) := by
  obtain ⟨g0, g1⟩ := wfh_live w hk (by omega) (by omega)
  rw [PL_get g0 g1, entv_l hk]
section LWR
variable {p : Program} {l : Launch} {e : Env} {R : Room} {s : State} {m : MethodId} {args : Array Value} {below : List Frame} {meth : Method} {c : Code} {H : Heap} {locs : List Loc} {cells slots : Nat} {Q : State → Prop}
variable {cc : ByteArray} {nL pc : Nat} {ret : Option FieldType} {ls : Array Slot} {rest : List Value} {D : va_G} {dA : Nat → ClassId} {ad : Nat → Nat} {A : Nat → Prop} {h : HT} {own : String} {pl : Nat} {lv : List (Nat × TV)}
variable {g g0 : GT} {ι : S} {st0 : List Value} {ad0 : Nat → Nat} {mc ms : Nat} {tab : List ExceptionTableEntry}
theorem hl_lald {i : Int32} {k : Nat} (X : CX p s m args c meth cc nL ret own D dA ad A) (hP : PW D dA A s.heap ad (HS g ι) H locs) (hk : gK g pl = 109) (hin : vp_in i (gL g pl)) (hi : i.toNatClampNeg = k) (hdg : decode cc pc = .ok (.laload, 1))
    (kk : W p l e R s m args below meth c H locs cells slots Q (F0 m (pc + 1) ls (.long (ι pl k).toInt64 :: rest))) : W p l e R s m args below meth c H locs cells slots Q (F0 m pc ls (.int i :: rv ad pl :: rest)) := by
  subst hi
  rw [rv_nz (v := pl) (pl_nz hP.2.2.2 (h := HS g ι) (ci := 109) hk (by omega) (by omega))]
  exact va_lald X.1 X.2.1 X.2.2.2.2.2.2.1.1 hP.1 (pl - 200) 6 (ent_l hP.2.2.2 hk) (ty_get rfl) hin hdg kk
theorem hl_last {i x : Int32} {k : Nat} {P : S → Prop} (X : CX p s m args c meth cc nL ret own D dA ad A) (hP : PW D dA A s.heap ad (HS g ι) H locs) (hk : gK g pl = 109) (hin : vp_in i (gL g pl)) (hi : i.toNatClampNeg = k) (hdg : decode cc pc = .ok (.lastore, 1)) (hF : ∀ ι', ι' = up2 ι pl k x → P ι')
    (kk : ∀ (H1 : Heap) (locs1 : List Loc) (ι' : S), PW D dA A s.heap ad (HS g ι') H1 locs1 → P ι' → W p l e R s m args below meth c H1 locs1 cells slots Q (F0 m (pc + 1) ls rest)) : W p l e R s m args below meth c H locs cells slots Q (F0 m pc ls (.long x.toInt64 :: .int i :: rv ad pl :: rest)) := by
  subst hi
  obtain ⟨P1, P2, P3, P4⟩ := id hP
  have hk9 : hK (HS g ι) pl = 109 := hk
  obtain ⟨h0, h1⟩ := wfh_live P4 hk9 (by omega) (by omega)
  rw [rv_nz (v := pl) (by omega)]
  refine va_last X.1 X.2.1 X.2.2.2.2.2.2.1.1 P1 P2 P3 (pl - 200) 6 (ent_l P4 hk9) (ty_get rfl) hin hdg (fun H1 locs1 q1 q2 q3 => ?_)
  have e : (PL dA ad (HS g ι)).set (pl - 200) (ad pl, .inl (dA 109, hL (HS g ι) pl, .inr (.inl (vp_updL (fun k => (hI (HS g ι) pl k).toInt64) i.toNatClampNeg x.toInt64)))) = PL dA ad (setI (HS g ι) pl i.toNatClampNeg x) := by
    refine PL_set h0 h1 rfl (fun q hq => entv_ext rfl rfl (if_neg hq) rfl) ?_
    refine (entv_l (h := setI (HS g ι) pl i.toNatClampNeg x) hk9).trans ?_
    rw [show hI (setI (HS g ι) pl i.toNatClampNeg x) pl = upd (hI (HS g ι) pl) i.toNatClampNeg x from if_pos rfl]
    have e2 : (fun k => (upd (hI (HS g ι) pl) i.toNatClampNeg x k).toInt64) = vp_updL (fun k => (hI (HS g ι) pl k).toInt64) i.toNatClampNeg x.toInt64 := by
      funext z
      unfold upd vp_updL
      split <;> rfl
    rw [e2]
    rfl
  rw [e] at q1 q2
  exact kk H1 locs1 _ ⟨q1, q2, q3, wfh_setI P4 h0⟩ (hF _ rfl)
theorem hg_newaL (rs : List TV) {n : Int32} {N' : Nat} {P : GT → S → Prop} (X : CX p s m args c meth cc nL ret own D dA ad A) (hP : PW D dA A s.heap ad (HS g ι) H locs) (hA0 : HA ad0 g0 ad g) (hl : LH ad ls nL lv) (hlv : LTl (200 + gN g) lv) (hrs : LTs (200 + gN g) rs) (harr : Cond.arrayClass .long ∈ lw_all) (hn : ¬ n < 0) (hN : n.toNatClampNeg = N') (hbytes : N' * 8 ≤ 100000000) (hroom : cells + 1 ≤ R.cells ∧ slots + N' ≤ R.slots) (hdg : decode cc pc = .ok (.newarray .long, 2)) (hst : st0 = .int n :: rs.map (tv ad)) (hF : ∀ g' ι', g' = newg g 109 N' → ι' = newi g ι → P g' ι')
    (kk : ∀ (H1 : Heap) (ad' : Nat → Nat) (g' : GT) (ι' : S), CX p s m args c meth cc nL ret own D dA ad' A → PW D dA A s.heap ad' (HS g' ι') H1 locs → HA ad0 g0 ad' g' → gN g + 1 ≤ gN g' → (gK g' (200 + gN g) = 109 ∧ ∀ v, v < 200 + gN g → gK g' v = gK g v) → LH ad' ls nL lv → P g' ι' → W p l e R s m args below meth c H1 locs (cells + 1) (slots + N') Q (F0 m (pc + 2) ls (rv ad' (200 + gN g) :: rs.map (tv ad')))) : W p l e R s m args below meth c H locs cells slots Q (F0 m pc ls st0) := by
  subst hst
  refine va_newa (atype := .long) X.1 X.2.1 (X.2.2.2.2.1 _ harr) (ty := .long) rfl X.2.2.2.2.2.2.1.1 hP.1 hP.2.1 hP.2.2.1 X.2.2.2.2.2.1 (a0 := (N', .inr (.inl (fun _ => 0)))) (fun cA => rfl) hn hN (by show N' * componentBytes .long ≤ 536870912; rw [show componentBytes .long = 8 from rfl]; omega) hroom.1 hroom.2 hdg (fun q cA H1 hK' q1 q2 q3 => ?_)
  have hcA : cA = dA 109 := Option.some.inj ((show s.vm.findClass _ = some cA from (hK'.2 7 (cA, .long) rfl).2).symm.trans (X.2.2.2.2.2.2.1.1.2 6 (dA 109, .long) rfl).2)
  subst hcA
  have he : entv dA (va_up ad (200 + gN g) q) (newp (HS g ι) 109 N') (200 + gN g) = .inl (dA 109, N', .inr (.inl (fun _ => 0))) := by
    rw [entv_l (show hK (newp (HS g ι) 109 N') (200 + gN g) = 109 from if_pos rfl)]
    rw [show hI (newp (HS g ι) 109 N') (200 + gN g) = fun _ => 0 from if_pos rfl, show hL (newp (HS g ι) 109 N') (200 + gN g) = N' from if_pos rfl]
    rfl
  obtain ⟨X', hP', hA'⟩ := pw_new hP X hA0 (by decide) he q1 q2 q3
  have h1 : ∀ p, p < 200 + gN g → va_up ad (200 + gN g) q p = ad p := fun p hp => if_neg (Nat.ne_of_lt hp)
  have := kk H1 _ _ _ X' hP' hA' (Nat.le_refl _) ⟨if_pos rfl, fun v hv => if_neg (Nat.ne_of_lt hv)⟩ (lh_new hl hlv h1) (hF _ _ rfl rfl)
  rw [tvs_new hrs h1, rv_nz (by omega), show va_up ad (200 + gN g) q (200 + gN g) = q from if_pos rfl] at this
  exact this
/-- a thrown object goes into a local that is never read -/
theorem hl_ast3 {q : Nat} (X : CX p s m args c meth cc nL ret own D dA ad A) (hl : LH ad0 ls nL lv) {i : Nat} {k : Fin 4} (hdg : decode cc pc = .ok (.astore_n k, 1)) (hi : (k : Nat) = i) (hn : i < nL) (kk : ∀ ls' : Array Slot, W p l e R s m args below meth c H locs cells slots Q (F0 m (pc + 1) ls' rest)) : W p l e R s m args below meth c H locs cells slots Q (F0 m pc ls (.ref q :: rest)) :=
  lv_astore_n X.1 X.2.1 (lv := []) hdg hi ⟨hl.1, hl.2.1, fun _ h => by cases h⟩ hn rfl (fun ls' _ => kk ls')
theorem hl_ast {q : Nat} (X : CX p s m args c meth cc nL ret own D dA ad A) (hl : LH ad0 ls nL lv) {i : Nat} (hdg : decode cc pc = .ok (.astore i, 2)) (hn : i < nL) (kk : ∀ ls' : Array Slot, W p l e R s m args below meth c H locs cells slots Q (F0 m (pc + 2) ls' rest)) : W p l e R s m args below meth c H locs cells slots Q (F0 m pc ls (.ref q :: rest)) :=
  lv_astore X.1 X.2.1 (lv := []) hdg ⟨hl.1, hl.2.1, fun _ h => by cases h⟩ hn rfl (fun ls' _ => kk ls')
variable {y : MethodName} {bytes : ByteArray} {maxL nA index N b1 s1 : Nat} {rt : FieldType} {rm : Room} {C : String} {T : u_T} {Q1e : Int32 → S → Prop} {Xq1e : Nat → S → Prop} {Q1 : Int32 → GT → S → Prop} {Xq1 : Nat → Nat → GT → S → Prop} {Xqz : Nat → GT → S → Prop}
/-- a call of a method of the shape's own mode, inside a try -/
theorem hl_tryE (ci : Nat) (as : List TV) (X : CX p s m args c meth cc nL ret own D dA ad A) (hP : PW D dA A s.heap ad (HS g ι) H locs) (hk : gK g pl = ci + 1) (hM : CEi l y bytes maxL rt rm D dA ad g ι H.size (pX pl :: as) Q1e Xq1e b1 s1) (cw : CallW R s args own C index y bytes maxL (some rt) (ws_ y bytes maxL (some rt)) rm b1 s1 nA) (hn : as.length = nA) (hl : LH ad ls nL lv) {k8 : Nat} (hrest : (rest.map fun v => v.category).sum ≤ k8) (h8 : k8 ≤ 8) (hroom : cells + b1 ≤ R.cells ∧ slots + s1 ≤ R.slots) (hdg : decode cc pc = .ok (.invokevirtual index, 3)) (hst : st0 = (as.map (tv ad)).reverse ++ rv ad pl :: rest)
    (kx : ∀ (k : Nat) (ι' : S) (H1 : Heap) (locs1 : List Loc) (q9 : Addr) (ce : Cell), Xq1e k ι' → PW D dA A s.heap ad (HS g ι') H1 locs1 → H1[q9]? = some ce → ce.vm = .none → s.vm.findClass (exN k) = some ce.cls → vx_W p l e R s m args below meth c H1 locs1 (cells + b1) (slots + s1) Q (F0 m pc ls rest) q9)
    (kk : ∀ (r : Int32) (ι' : S) (H1 : Heap) (locs1 : List Loc), Q1e r ι' → PW D dA A s.heap ad (HS g ι') H1 locs1 → W p l e R s m args below meth c H1 locs1 (cells + b1) (slots + s1) Q (F0 m (pc + 3) ls (.int r :: rest))) (hci : ci < 99 := by exact Nat.le_of_ble_eq_true rfl) (hc9 : CL[ci]? = some (C, T, N) := by rfl) : W p l e R s m args below meth c H locs cells slots Q (F0 m pc ls st0) := by
  subst hst
  have hpl : pl ≠ 0 := pl_nz hP.2.2.2 (pl := pl) (ci := ci + 1) hk (by omega) (by omega)
  rw [rv_nz hpl]
  exact vx_calli (vx_runV (As := as.map (tv ad)) (rest := rest) ⟨X.1, X.2.1, X.2.2.1, X.2.2.2.1, X.2.2.2.2.1⟩ hM cw ⟨cpc_blind, ph_recv X hP hk hci hc9, hg_recv X hP hpl⟩ rfl (by rw [List.length_map]; exact hn) hl.1 rfl (lv_room (Nat.le_trans hrest h8)) hdg hroom) hP.2.2.1 (fun q _ hq => ph_free X hP q hq) (ph_free X hP) (fun q _ hq => ph_free X hP q hq) (fun E ce q9 u t H1 locs1 ht hvm hq hB hz hk1 hS hce hv hcl => by
      obtain ⟨hE, hB⟩ := hB
      subst hE
      exact kx u.1 u.2 H1 locs1 q9 ce hq (ph_after X hP hB ht hS) hce hv hcl) (fun r u t H1 locs1 ht hvm hq hB hz hk1 hS => by obtain ⟨ι', rfl, hq⟩ := hq; exact kk r ι' H1 locs1 hq (ph_after X hP hB ht hS))
/-- a call of a method that makes cells, inside a try -/
theorem hl_tryY (ci : Nat) (as rs : List TV) (X : CX p s m args c meth cc nL ret own D dA ad A) (hP : PW D dA A s.heap ad (HS g ι) H locs) (hk : gK g pl = ci + 1) (hM : CYi l y bytes maxL rt rm D dA ad g ι H.size (pX pl :: as) Q1 Xq1 b1 s1) (cw : CallW R s args own C index y bytes maxL (some rt) (ws_ y bytes maxL (some rt)) rm b1 s1 nA) (hn : as.length = nA) (hA0 : HA ad0 g0 ad g) (hl : LH ad ls nL lv) (hlv : LTl (200 + gN g) lv) (hrs : LTs (200 + gN g) rs) {k8 : Nat} (hrest : ((rs.map (tv ad)).map fun v => v.category).sum ≤ k8) (h8 : k8 ≤ 8) (hroom : cells + b1 ≤ R.cells ∧ slots + s1 ≤ R.slots) (hdg : decode cc pc = .ok (.invokevirtual index, 3)) (hst : st0 = (as.map (tv ad)).reverse ++ rv ad pl :: rs.map (tv ad))
    (kx : ∀ (k v : Nat) (ad' : Nat → Nat) (g' : GT) (ι' : S) (H1 : Heap) (locs1 : List Loc) (q9 : Addr) (ce : Cell), Xq1 k v g' ι' → CX p s m args c meth cc nL ret own D dA ad' A → PW D dA A s.heap ad' (HS g' ι') H1 locs1 → HA ad0 g0 ad' g' → gN g ≤ gN g' → H1[q9]? = some ce → ce.vm = .none → s.vm.findClass (exN k) = some ce.cls → vx_W p l e R s m args below meth c H1 locs1 (cells + b1) (slots + s1) Q (F0 m pc ls (rs.map (tv ad))) q9)
    (kk : ∀ (r : Int32) (ad' : Nat → Nat) (g' : GT) (ι' : S) (H1 : Heap) (locs1 : List Loc), Q1 r g' ι' → CX p s m args c meth cc nL ret own D dA ad' A → PW D dA A s.heap ad' (HS g' ι') H1 locs1 → HA ad0 g0 ad' g' → gN g ≤ gN g' → LH ad' ls nL lv → W p l e R s m args below meth c H1 locs1 (cells + b1) (slots + s1) Q (F0 m (pc + 3) ls (.int r :: rs.map (tv ad')))) (hci : ci < 99 := by exact Nat.le_of_ble_eq_true rfl) (hc9 : CL[ci]? = some (C, T, N) := by rfl) : W p l e R s m args below meth c H locs cells slots Q (F0 m pc ls st0) := by
  subst hst
  have hpl : pl ≠ 0 := pl_nz hP.2.2.2 (pl := pl) (ci := ci + 1) hk (by omega) (by omega)
  rw [rv_nz hpl]
  exact yx_calli (yx_runV (As := as.map (tv ad)) (rest := rs.map (tv ad)) ⟨X.1, X.2.1, X.2.2.1, X.2.2.2.1, X.2.2.2.2.1⟩ hM cw ⟨cpc_blind, ph_recv X hP hk hci hc9, hg_recv X hP hpl⟩ rfl (by rw [List.length_map]; exact hn) hl.1 rfl (lv_room (Nat.le_trans hrest h8)) hdg hroom) hP.2.2.1 (fun q _ hq => ph_free X hP q hq) (ph_free X hP) (fun q _ hq => ph_free X hP q hq) (fun E ce q9 u t H1 locs1 ht hvm hq hB hz hk1 hS hce hv hcl => by
      obtain ⟨k, v, h9, ad9⟩ := u
      obtain ⟨g', ι', e1, hA', hv1, hkv, hx⟩ := hq
      have e1 : h9 = HS g' ι' := e1
      subst e1
      obtain ⟨hE, hq9, hHB⟩ := hB
      have hE : E = exN k := hE
      subst hE
      have h1 := hA'.2
      exact kx k v ad9 g' ι' H1 locs1 q9 ce hx (cx_ad X (fun p hp => h1 p (by omega))) (h_after X hP hHB ht hS) (hA0.tr hA') hA'.1 hce hv hcl) (fun r u t H1 locs1 ht hvm hq hB hz hk1 hS => by
    obtain ⟨h9, ad9⟩ := u
    obtain ⟨g', ι', rfl, hA', hq⟩ := hq
    have h1 := hA'.2
    have h2 := kk r _ g' ι' H1 locs1 hq (cx_ad X (fun p hp => h1 p (by omega))) (h_after X hP hB ht hS) (hA0.tr hA') hA'.1 (lh_new hl hlv h1)
    rw [tvs_new hrs h1] at h2
    exact h2)
/-- SpoonRow.bed, inside a try -/
theorem hl_tryZ {hh : List (Nat × Nat × Nat × Nat)} (ci : Nat) (as rs : List TV) (X : CX p s m args c meth cc nL ret own D dA ad A) (hP : PW D dA A s.heap ad (HS g ι) H locs) (hk : gK g pl = ci + 1) (hM : CZi l y bytes maxL rt hh rm D dA ad g ι H.size (pX pl :: as) Q1 Xqz b1 s1) (cw : vx_CVW R s args own C index y bytes maxL (some rt) hh (wsW y bytes maxL (some rt) hh) rm b1 s1 nA) (hn : as.length = nA) (hA0 : HA ad0 g0 ad g) (hl : LH ad ls nL lv) (hlv : LTl (200 + gN g) lv) (hrs : LTs (200 + gN g) rs) {k8 : Nat} (hrest : ((rs.map (tv ad)).map fun v => v.category).sum ≤ k8) (h8 : k8 ≤ 8) (hroom : cells + b1 ≤ R.cells ∧ slots + s1 ≤ R.slots) (hdg : decode cc pc = .ok (.invokevirtual index, 3)) (hst : st0 = (as.map (tv ad)).reverse ++ rv ad pl :: rs.map (tv ad))
    (kx : ∀ (k : Nat) (ad' : Nat → Nat) (g' : GT) (ι' : S) (H1 : Heap) (locs1 : List Loc) (q9 : Addr) (ce : Cell), Xqz k g' ι' → CX p s m args c meth cc nL ret own D dA ad' A → PW D dA A s.heap ad' (HS g' ι') H1 locs1 → HA ad0 g0 ad' g' → gN g ≤ gN g' → H1[q9]? = some ce → ce.vm = .none → s.vm.findClass (exN k) = some ce.cls → vx_W p l e R s m args below meth c H1 locs1 (cells + b1) (slots + s1) Q (F0 m pc ls (rs.map (tv ad))) q9)
    (kk : ∀ (r : Int32) (ad' : Nat → Nat) (g' : GT) (ι' : S) (H1 : Heap) (locs1 : List Loc), Q1 r g' ι' → CX p s m args c meth cc nL ret own D dA ad' A → PW D dA A s.heap ad' (HS g' ι') H1 locs1 → HA ad0 g0 ad' g' → gN g ≤ gN g' → LH ad' ls nL lv → W p l e R s m args below meth c H1 locs1 (cells + b1) (slots + s1) Q (F0 m (pc + 3) ls (.int r :: rs.map (tv ad')))) (hci : ci < 99 := by exact Nat.le_of_ble_eq_true rfl) (hc9 : CL[ci]? = some (C, T, N) := by rfl) : W p l e R s m args below meth c H locs cells slots Q (F0 m pc ls st0) := by
  subst hst
  have hpl : pl ≠ 0 := pl_nz hP.2.2.2 (pl := pl) (ci := ci + 1) hk (by omega) (by omega)
  rw [rv_nz hpl]
  exact vx_calli (vx_runVX (As := as.map (tv ad)) (rest := rs.map (tv ad)) ⟨X.1, X.2.1, X.2.2.1, X.2.2.2.1, X.2.2.2.2.1⟩ hM cw ⟨cpc_blind, ph_recv X hP hk hci hc9, hg_recv X hP hpl⟩ rfl (by rw [List.length_map]; exact hn) hl.1 rfl (lv_room (Nat.le_trans hrest h8)) hdg hroom) hP.2.2.1 (fun q _ hq => ph_free X hP q hq) (ph_free X hP) (fun q _ hq => ph_free X hP q hq) (fun E ce q9 u t H1 locs1 ht hvm hq hB hz hk1 hS hce hv hcl => by
      obtain ⟨k, h9, ad9⟩ := u
      obtain ⟨g', ι', e1, hA', hx⟩ := hq
      have e1 : h9 = HS g' ι' := e1
      subst e1
      obtain ⟨hE, hHB⟩ := hB
      have hE : E = exN k := hE
      subst hE
      have h1 := hA'.2
      exact kx k ad9 g' ι' H1 locs1 q9 ce hx (cx_ad X (fun p hp => h1 p (by omega))) (h_after X hP hHB ht hS) (hA0.tr hA') hA'.1 hce hv hcl) (fun r u t H1 locs1 ht hvm hq hB hz hk1 hS => by
    obtain ⟨h9, ad9⟩ := u
    obtain ⟨g', ι', rfl, hA', hq⟩ := hq
    have h1 := hA'.2
    have h2 := kk r _ g' ι' H1 locs1 hq (cx_ad X (fun p hp => h1 p (by omega))) (h_after X hP hB ht hS) (hA0.tr hA') hA'.1 (lh_new hl hlv h1)
    rw [tvs_new hrs h1] at h2
    exact h2)
/-- caught: NoSuchElementException by the first row of the table -/
theorem hl_catchN {q9 : Addr} {ce : Cell} {x0 : ExceptionTableEntry} {suf : List ExceptionTableEntry} (X : CX p s m args c meth cc nL ret own D dA ad A) (htab : c.exceptionTable.toList = x0 :: suf) (hcov : covers x0 pc = true) (hct : x0.catchType ≠ 0) (hlink : Cond.classLink own x0.catchType "java/util/NoSuchElementException" ∈ lw_all) (hce : H[q9]? = some ce) (hv : ce.vm = .none) (hcl : s.vm.findClass (exN 1) = some ce.cls) (kk : W p l e R s m args below meth c H locs cells slots Q (F0 m x0.handlerPc ls [.ref q9])) : vx_W p l e R s m args below meth c H locs cells slots Q (F0 m pc ls rest) q9 :=
  vx_catch X.2.2.2.1 [] x0 suf htab (fun z hz => by cases hz) hcov hct (X.2.2.2.2.1 _ hlink) (va_Nw.use rfl (X.2.2.2.2.2.2.1.2.1 _ q1561 rfl)) hce hv hcl kk
theorem hl_catchI {q9 : Addr} {ce : Cell} {x0 : ExceptionTableEntry} {suf : List ExceptionTableEntry} (X : CX p s m args c meth cc nL ret own D dA ad A) (htab : c.exceptionTable.toList = x0 :: suf) (hcov : covers x0 pc = true) (hct : x0.catchType ≠ 0) (hlink : Cond.classLink own x0.catchType "java/lang/IllegalArgumentException" ∈ lw_all) (hce : H[q9]? = some ce) (hv : ce.vm = .none) (hcl : s.vm.findClass (exN 2) = some ce.cls) (kk : W p l e R s m args below meth c H locs cells slots Q (F0 m x0.handlerPc ls [.ref q9])) : vx_W p l e R s m args below meth c H locs cells slots Q (F0 m pc ls rest) q9 :=
  vx_catch X.2.2.2.1 [] x0 suf htab (fun z hz => by cases hz) hcov hct (X.2.2.2.2.1 _ hlink) (va_Nw.use rfl (X.2.2.2.2.2.2.1.2.1 _ q172 rfl)) hce hv hcl kk
/-- caught: IllegalArgumentException by the second row -/
theorem hl_catchI2 {q9 : Addr} {ce : Cell} {x0 x1 : ExceptionTableEntry} {suf : List ExceptionTableEntry} (X : CX p s m args c meth cc nL ret own D dA ad A) (htab : c.exceptionTable.toList = x0 :: x1 :: suf) (hct0 : x0.catchType ≠ 0) (hlink0 : Cond.classLink own x0.catchType "java/util/NoSuchElementException" ∈ lw_all) (hcov : covers x1 pc = true) (hct : x1.catchType ≠ 0) (hlink : Cond.classLink own x1.catchType "java/lang/IllegalArgumentException" ∈ lw_all) (hce : H[q9]? = some ce) (hv : ce.vm = .none) (hcl : s.vm.findClass (exN 2) = some ce.cls) (kk : W p l e R s m args below meth c H locs cells slots Q (F0 m x1.handlerPc ls [.ref q9])) : vx_W p l e R s m args below meth c H locs cells slots Q (F0 m pc ls rest) q9 :=
  vx_catch X.2.2.2.1 [x0] x1 suf htab (fun z hz => Or.inr (by
    rw [List.mem_singleton] at hz
    subst hz
    exact ⟨hct0, _, X.2.2.2.2.1 _ hlink0, X.2.2.2.2.2.2.1.2.2.2.2.2.2.2.2.2.2.2.1⟩)) hcov hct (X.2.2.2.2.1 _ hlink) (va_Nw.use rfl (X.2.2.2.2.2.2.1.2.1 _ q172 rfl)) hce hv hcl kk
end LWR
