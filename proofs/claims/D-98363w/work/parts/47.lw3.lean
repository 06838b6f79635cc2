set_option maxRecDepth 100000
def subT (ι : S) (T : Nat) : S := fun j => ι (T + j)
def adT (ad : Nat → Nat) (T : Nat) : Nat → Nat := fun p => if p < 200 then ad p else ad (T + (p - 200))
def putT (ι : S) (T : Nat) (σ : S) : S := fun p => if T ≤ p ∧ p < T + 41 then σ (p - T) else ι p
def shT (T v : Nat) : Nat := if v < 200 then v else T + (v - 200)
/-- the twin's shape at place T -/
def TG (g : GT) (T : Nat) : Prop := 200 ≤ T ∧ T + 41 ≤ 200 + gN g ∧ (∀ j, j < 41 → gK g (T + j) = tK (200 + j)) ∧ (∀ j, j < 41 → gL g (T + j) = tL (200 + j)) ∧ ∀ j k, j < 41 → gR g (T + j) k = shT T (tR (200 + j) k)
theorem adT_lo {ad : Nat → Nat} {T p : Nat} (h : p < 200) : adT ad T p = ad p := if_pos h
theorem adT_hi {ad : Nat → Nat} {T i : Nat} : adT ad T (200 + i) = ad (T + i) := by
  unfold adT
  rw [if_neg (by omega), show 200 + i - 200 = i by omega]
theorem ro_sh {ad : Nat → Nat} {T v : Nat} (hT : 200 ≤ T) : ro ad (shT T v) = ro (adT ad T) v := by
  unfold shT ro
  by_cases h : v < 200
  · rw [if_pos h, adT_lo h]
  · have e : adT ad T v = ad (T + (v - 200)) := if_neg h
    rw [if_neg h, e, if_neg (by omega), if_neg (by omega)]
theorem rv_sh {ad : Nat → Nat} {T v : Nat} (hT : 200 ≤ T) : rv ad (shT T v) = rv (adT ad T) v := congrArg va_rf (ro_sh hT)
theorem entT {dA : Nat → ClassId} {ad : Nat → Nat} {g : GT} {ι σ : S} {T j : Nat} (hT : TG g T) (hj : j < 41) (hs : ι (T + j) = σ j) : entv dA (adT ad T) (TH σ) (200 + j) = entv dA ad (HS g ι) (T + j) := by
  obtain ⟨t0, t1, t2, t3, t4⟩ := hT
  have eI : hI (TH σ) (200 + j) = ι (T + j) := by rw [th_I, hs]
  have eK : hK (HS g ι) (T + j) = hK (TH σ) (200 + j) := t2 j hj
  have eL : hL (HS g ι) (T + j) = hL (TH σ) (200 + j) := t3 j hj
  have eR : ∀ k, hR (HS g ι) (T + j) k = shT T (hR (TH σ) (200 + j) k) := fun k => t4 j k hj
  unfold entv
  rw [eK, eL, eI, show hI (HS g ι) (T + j) = ι (T + j) from rfl]
  have e1 : (fun k => ro (adT ad T) (hR (TH σ) (200 + j) k)) = fun k => ro ad (hR (HS g ι) (T + j) k) := by
    funext k
    rw [eR, ro_sh t0]
  rw [e1, mkF_ext (ad := ad) (ad' := adT ad T) (i := ι (T + j)) (i' := ι (T + j)) (r := hR (HS g ι) (T + j)) (r' := hR (TH σ) (200 + j)) _ 0 (fun _ _ => rfl) (fun k _ => by rw [eR, rv_sh t0])]
theorem tK_hi : ∀ p, 241 ≤ p → tK p = 0 := by
  intro p hp
  unfold tK
  have : tKt.length = 41 := rfl
  rw [if_neg (by omega), List.getD_eq_getElem?_getD, List.getElem?_eq_none (by omega)]
  rfl
theorem tK_nz : ∀ j : Fin 41, tK (200 + j.1) ≠ 0 := by decide +kernel
theorem getD_lt {l : List Nat} {n : Nat} (h : ∀ x ∈ l, x < n) (h0 : 0 < n) (k : Nat) : l.getD k 0 < n := by
  by_cases hk : k < l.length
  · rw [List.getD_eq_getElem?_getD, List.getElem?_eq_getElem hk]
    exact h _ (List.getElem_mem hk)
  · rw [List.getD_eq_getElem?_getD, List.getElem?_eq_none (by omega)]
    exact h0
theorem wfh_TH (σ : S) : WFH (TH σ) := by
  refine ⟨fun p hp => ⟨if_pos hp, if_pos hp, if_pos hp, ?_⟩, fun p hp => tK_hi p hp, fun p k => ?_, fun p h0 h1 => ?_⟩
  · funext k
    exact if_pos hp
  · show tR p k < 200 + 41
    unfold tR
    split
    · have := roR_lt p k (by assumption)
      omega
    · split
      · exact getD_lt (by decide) (by decide) k
      · split
        · exact getD_lt (by decide) (by decide) k
        · split
          · exact getD_lt (by decide) (by decide) k
          · omega
  · have h1 : p < 200 + 41 := h1
    have := tK_nz ⟨p - 200, by omega⟩
    rw [show 200 + (p - 200) = p by omega] at this
    exact this
section LT3
variable {p : Program} {l : Launch} {e : Env} {R : Room} {s : State} {m : MethodId} {args : Array Value} {below : List Frame} {meth : Method} {c : Code} {H : Heap} {locs : List Loc} {cells slots : Nat} {Q : State → Prop}
variable {cc : ByteArray} {nL pc : Nat} {ret : Option FieldType} {ls : Array Slot} {rest : List Value} {D : va_G} {dA : Nat → ClassId} {ad : Nat → Nat} {A : Nat → Prop} {h : HT} {own : String} {pl : Nat} {lv : List (Nat × TV)}
variable {g g0 : GT} {ι : S} {st0 : List Value} {ad0 : Nat → Nat} {T : Nat}
theorem pl_T {dA : Nat → ClassId} {ad : Nat → Nat} {g : GT} {ι : S} {T : Nat} (hT : TG g T) : ∀ (k : Nat) (q : Nat × va_E), (PL dA (adT ad T) (TH (subT ι T)))[k]? = some q → (PL dA ad (HS g ι))[(T - 200) + k]? = some q := by
  intro k q hk
  obtain ⟨h1, rfl⟩ := PL_lookup hk
  have h1 : k < 41 := h1
  have e := PL_get (dA := dA) (ad := ad) (h := HS g ι) (p := T + k) (by have := hT.1; omega) (by show T + k < 200 + gN g; have := hT.2.1; omega)
  rw [show T + k - 200 = T - 200 + k by have := hT.1; omega] at e
  rw [e, adT_hi, entT hT h1 rfl]
theorem pw_T (hT : TG g T) (hP : PW D dA A s.heap ad (HS g ι) H locs) : PW D dA A s.heap (adT ad T) (TH (subT ι T)) H locs := by
  refine ⟨hP.1.by _ (pl_T hT), hP.2.1.by _ (pl_T hT) (fun i j _ _ h => by omega), hP.2.2.1, wfh_TH _⟩
/-- behind a call of the twin -/
theorem pw_Tback {σ' : S} {H1 : Heap} {locs1 : List Loc} (hT : TG g T) (hP : PW D dA A s.heap ad (HS g ι) H locs) (hB : va_P D CL (PL dA (adT ad T) (TH σ')) H1) (hk1 : ∀ q : Nat, q < H.size → ¬ AF dA (adT ad T) (TH (subT ι T)) H.size q → H1[q]? = H[q]?) (hS : va_S A s.heap H1 locs1) : PW D dA A s.heap ad (HS g (putT ι T σ')) H1 locs1 := by
  obtain ⟨P1, P2, P3, P4⟩ := hP
  obtain ⟨t0, t1, -⟩ := id hT
  have len : ∀ k, k < gN g → (PL dA ad (HS g ι))[k]? = some (ad (200 + k), entv dA ad (HS g ι) (200 + k)) := fun k hk => by
    have := PL_get (dA := dA) (ad := ad) (h := HS g ι) (p := 200 + k) (by omega) (by show 200 + k < 200 + gN g; omega)
    rw [show 200 + k - 200 = k by omega] at this
    exact this
  refine ⟨fun k q hk => ?_, ⟨fun i j a b ha hb hab => ?_, fun k q hk => ?_⟩, hS, ?_⟩
  · obtain ⟨h1, rfl⟩ := PL_lookup hk
    have h1 : k < gN g := h1
    by_cases hin : T ≤ 200 + k ∧ 200 + k < T + 41
    · have e := PL_get (dA := dA) (ad := adT ad T) (h := TH σ') (p := 200 + (200 + k - T)) (by omega) (by show 200 + (200 + k - T) < 200 + 41; omega)
      have := hB _ _ e
      rw [adT_hi, show T + (200 + k - T) = 200 + k by omega] at this
      rw [entT (g := g) (ι := putT ι T σ') hT (by omega) (by show (if T ≤ T + (200 + k - T) ∧ T + (200 + k - T) < T + 41 then σ' (T + (200 + k - T) - T) else _) = _; rw [if_pos (by omega), show T + (200 + k - T) - T = 200 + k - T by omega]), show T + (200 + k - T) = 200 + k by omega] at this
      exact this
    · have e0 := len k h1
      have ee : entv dA ad (HS g (putT ι T σ')) (200 + k) = entv dA ad (HS g ι) (200 + k) := entv_ext rfl rfl (if_neg hin) rfl
      rw [ee]
      refine (P1 k _ e0).kept (hk1 _ ((P1 k _ e0).lt) ?_)
      rintro (⟨j, q, hj⟩ | hq)
      · obtain ⟨j1, hq⟩ := PL_lookup hj
        have j1 : j < 41 := j1
        have hq : ad (200 + k) = adT ad T (200 + j) := congrArg (fun x => x.1) hq
        have e2 := len (T + j - 200) (by omega)
        have := P2.1 _ _ _ _ e0 e2 (by rw [adT_hi] at hq; show ad (200 + k) = ad (200 + (T + j - 200)); rw [show 200 + (T + j - 200) = T + j by omega]; exact hq)
        omega
      · have := (P1 k _ e0).lt
        have hq : H.size ≤ ad (200 + k) := hq
        have : ad (200 + k) < H.size := this
        omega
  · obtain ⟨h1, rfl⟩ := PL_lookup ha
    obtain ⟨h2, rfl⟩ := PL_lookup hb
    exact P2.1 i j _ _ (len i h1) (len j h2) hab
  · obtain ⟨h1, rfl⟩ := PL_lookup hk
    have := P2.2 k _ (len k h1)
    exact this
  · refine ⟨fun q hq => ?_, P4.2.1, P4.2.2.1, P4.2.2.2⟩
    obtain ⟨a, b, c, d⟩ := P4.1 q hq
    exact ⟨a, b, (if_neg (by omega)).trans c, d⟩
variable {y : MethodName} {bytes : ByteArray} {maxL nA index : Nat} {rt : FieldType} {rm : Room} {Q1 : Int32 → S → Prop} {Qv1 : S → Prop}
theorem tvx_T {ad : Nat → Nat} {T : Nat} : ∀ xs : List Int32, (xs.map fun x => iX x).map (tv (adT ad T)) = (xs.map fun x => iX x).map (tv ad)
  | [] => rfl
  | x :: xs => by rw [List.map_cons, List.map_cons, List.map_cons, tvx_T xs]; rfl
theorem hg_callTi (xs : List Int32) (X : CX p s m args c meth cc nL ret own D dA ad A) (hP : PW D dA A s.heap ad (HS g ι) H locs) (hT : TG g T) (hM : CTi l y bytes maxL rt rm D dA (adT ad T) (subT ι T) H.size (pX 200 :: xs.map fun x => iX x) Q1) (cw : CallW R s args own RX8 index y bytes maxL (some rt) (ws_ y bytes maxL (some rt)) rm 0 0 nA) (hn : xs.length = nA) (hl : LH ad ls nL lv) {k8 : Nat} (hrest : (rest.map fun v => v.category).sum ≤ k8) (h8 : k8 ≤ 8) (hroom : cells ≤ R.cells ∧ slots ≤ R.slots) (hdg : decode cc pc = .ok (.invokevirtual index, 3)) (hst : st0 = ((xs.map fun x => iX x).map (tv ad)).reverse ++ rv ad T :: rest)
    (kk : ∀ (r : Int32) (σ' : S) (H1 : Heap) (locs1 : List Loc), Q1 r σ' → PW D dA A s.heap ad (HS g (putT ι T σ')) H1 locs1 → W p l e R s m args below meth c H1 locs1 cells slots Q (F0 m (pc + 3) ls (.int r :: rest))) : W p l e R s m args below meth c H locs cells slots Q (F0 m pc ls st0) := by
  subst hst
  have X2 := cx_ad (ad' := adT ad T) X (fun p hp => adT_lo hp)
  have hP2 := pw_T hT hP
  have e : rv ad T = .ref (adT ad T 200) := by
    rw [rv_nz (by have := hT.1; omega)]
    exact congrArg Value.ref (adT_hi (i := 0)).symm
  have hst : ∀ U : State, U.heap = H → s.WarmedH U.vm → CPc D dA (adT ad T) (TH (subT ι T)) H.size (pX 200 :: xs.map fun x => iX x) (Value.ref (adT ad T 200) :: (xs.map fun x => iX x).map (tv (adT ad T))).toArray U := fun U hU hW => by
    have := ph_start X2 hP2 (pX 200 :: xs.map fun x => iX x) hU hW
    rw [List.map_cons, show tv (adT ad T) (pX 200) = rv (adT ad T) 200 from rfl, rv_nz (by decide)] at this
    exact this
  rw [e, ← tvx_T (T := T) xs]
  exact va_calli (va_runV (As := (xs.map fun x => iX x).map (tv (adT ad T))) (rest := rest) ⟨X.1, X.2.1, X.2.2.1, X.2.2.2.1, X.2.2.2.2.1⟩ hM cw ⟨cpc_blind, ph_recv (pl := 200) (ci := 0) X2 hP2 (show hK (TH (subT ι T)) 200 = 0 + 1 from tK_200) (by decide) rfl, hst⟩ rfl (by rw [List.length_map, List.length_map]; exact hn) hl.1 rfl (lv_room (Nat.le_trans hrest h8)) hdg hroom) hP.2.2.1 (fun q _ hq => ph_free X2 hP2 q hq) (ph_free X2 hP2) (fun r u t H1 locs1 ht hvm hq hB hz hk1 hS => by
    obtain ⟨σ', rfl, hq⟩ := hq
    subst ht
    exact kk r σ' _ locs1 hq (pw_Tback hT hP hB.1 hk1 hS))
theorem hg_callTv (xs : List Int32) (X : CX p s m args c meth cc nL ret own D dA ad A) (hP : PW D dA A s.heap ad (HS g ι) H locs) (hT : TG g T) (hM : CTv l y bytes maxL rm D dA (adT ad T) (subT ι T) H.size (pX 200 :: xs.map fun x => iX x) Qv1) (cw : CallW R s args own RX8 index y bytes maxL none (ws_ y bytes maxL none) rm 0 0 nA) (hn : xs.length = nA) (hl : LH ad ls nL lv) {k8 : Nat} (hrest : (rest.map fun v => v.category).sum ≤ k8) (h8 : k8 ≤ 8) (hroom : cells ≤ R.cells ∧ slots ≤ R.slots) (hdg : decode cc pc = .ok (.invokevirtual index, 3)) (hst : st0 = ((xs.map fun x => iX x).map (tv ad)).reverse ++ rv ad T :: rest)
    (kk : ∀ (σ' : S) (H1 : Heap) (locs1 : List Loc), Qv1 σ' → PW D dA A s.heap ad (HS g (putT ι T σ')) H1 locs1 → W p l e R s m args below meth c H1 locs1 cells slots Q (F0 m (pc + 3) ls rest)) : W p l e R s m args below meth c H locs cells slots Q (F0 m pc ls st0) := by
  subst hst
  have X2 := cx_ad (ad' := adT ad T) X (fun p hp => adT_lo hp)
  have hP2 := pw_T hT hP
  have e : rv ad T = .ref (adT ad T 200) := by
    rw [rv_nz (by have := hT.1; omega)]
    exact congrArg Value.ref (adT_hi (i := 0)).symm
  have hst : ∀ U : State, U.heap = H → s.WarmedH U.vm → CPc D dA (adT ad T) (TH (subT ι T)) H.size (pX 200 :: xs.map fun x => iX x) (Value.ref (adT ad T 200) :: (xs.map fun x => iX x).map (tv (adT ad T))).toArray U := fun U hU hW => by
    have := ph_start X2 hP2 (pX 200 :: xs.map fun x => iX x) hU hW
    rw [List.map_cons, show tv (adT ad T) (pX 200) = rv (adT ad T) 200 from rfl, rv_nz (by decide)] at this
    exact this
  rw [e, ← tvx_T (T := T) xs]
  exact va_callv (va_runV (As := (xs.map fun x => iX x).map (tv (adT ad T))) (rest := rest) ⟨X.1, X.2.1, X.2.2.1, X.2.2.2.1, X.2.2.2.2.1⟩ hM cw ⟨cpc_blind, ph_recv (pl := 200) (ci := 0) X2 hP2 (show hK (TH (subT ι T)) 200 = 0 + 1 from tK_200) (by decide) rfl, hst⟩ rfl (by rw [List.length_map, List.length_map]; exact hn) hl.1 rfl (lv_room (Nat.le_trans hrest h8)) hdg hroom) hP.2.2.1 (fun q _ hq => ph_free X2 hP2 q hq) (ph_free X2 hP2) (fun u t H1 locs1 ht hvm hq hB hz hk1 hS => by
    obtain ⟨σ', rfl, hq⟩ := hq
    subst ht
    exact kk σ' _ locs1 hq (pw_Tback hT hP hB.1 hk1 hS))
/-- the script: a cell of the start at place 140 -/
def SC (s : State) (A : Nat → Prop) (ad : Nat → Nat) (L : Nat) (xs : Nat → Int32) : Prop := va_X (ad 140) L xs s s.heap ∧ ad 140 < s.heap.size ∧ ¬ A (ad 140)
theorem sc_ad {ad ad' : Nat → Nat} {L : Nat} {xs : Nat → Int32} (h : SC s A ad L xs) (he : ad' 140 = ad 140) : SC s A ad' L xs := by
  unfold SC
  rw [he]
  exact h
theorem hl_sld {L : Nat} {xs : Nat → Int32} {i : Int32} {k : Nat} (X : CX p s m args c meth cc nL ret own D dA ad A) (hP : PW D dA A s.heap ad (HS g ι) H locs) (hs : SC s A ad L xs) (hin : vp_in i L) (hi : i.toNatClampNeg = k) (hdg : decode cc pc = .ok (.iaload, 1))
    (kk : W p l e R s m args below meth c H locs cells slots Q (F0 m (pc + 1) ls (.int (xs k) :: rest))) : W p l e R s m args below meth c H locs cells slots Q (F0 m pc ls (.int i :: rv ad 140 :: rest)) := by
  subst hi
  rw [rv_nz (by decide)]
  exact va_sld X.1 X.2.1 hs.1 hs.2.1 hs.2.2 hP.2.2.1 hin hdg kk
theorem hl_slen {L : Nat} {xs : Nat → Int32} (X : CX p s m args c meth cc nL ret own D dA ad A) (hP : PW D dA A s.heap ad (HS g ι) H locs) (hs : SC s A ad L xs) (hdg : decode cc pc = .ok (.arraylength, 1))
    (kk : W p l e R s m args below meth c H locs cells slots Q (F0 m (pc + 1) ls (.int (nI L) :: rest))) : W p l e R s m args below meth c H locs cells slots Q (F0 m pc ls (rv ad 140 :: rest)) := by
  rw [rv_nz (by decide)]
  exact va_slen X.1 X.2.1 hs.1 hs.2.1 hs.2.2 hP.2.2.1 hdg kk
end LT3
