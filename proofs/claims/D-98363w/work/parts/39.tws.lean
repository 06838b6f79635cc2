set_option maxRecDepth 100000
section TWS
variable {p : Program} {l : Launch} {e : Env} {R : Room} {s : State} {m : MethodId} {args : Array Value} {below : List Frame} {meth : Method} {c : Code} {H : Heap} {locs : List Loc} {cells slots : Nat} {Q : State → Prop}
variable {cc : ByteArray} {nL pc : Nat} {ret : Option FieldType} {ls : Array Slot} {rest : List Value} {D : va_G} {dA : Nat → ClassId} {ad : Nat → Nat} {A : Nat → Prop} {h : HT} {own : String} {pl : Nat} {lv : List (Nat × TV)}
variable {σ : S}
theorem sh0 (x : Int32) : x >>> ((0 : Int32) &&& 31) = x := by simp
theorem ch_ok : ∀ i, i < 30 → ∀ k, k < strLen.getD i 0 → ((((strByt.getD i []).getD k 0 &&& 255).toUInt32 % 65536).toInt32 = (strByt.getD i []).getD k 0) ∧ narrow .char (.int ((strByt.getD i []).getD k 0)) = .int ((strByt.getD i []).getD k 0) := by decide +kernel
theorem len_ok : ∀ i, i < 30 → strLen.getD i 0 < 100 := by decide +kernel
def tg (σ : S) : GT := ((TH σ).1, (TH σ).2.1, (TH σ).2.2.1, (TH σ).2.2.2.2)
def ti (σ : S) : S := (TH σ).2.2.2.1
theorem tHS (σ : S) : HS (tg σ) (ti σ) = TH σ := rfl
theorem tws_facts (hP : PW D dA A s.heap ad (HS (tg σ) (ti σ)) H locs) {sp : Nat} (hs : isStr sp) : isStrP (tg σ) sp ∧ gR (tg σ) sp 0 = sp + 1 ∧ isBytP (tg σ) (sp + 1) ∧ ti σ sp 1 = 0 ∧ gL (tg σ) (sp + 1) = sLn sp ∧ (∀ k, ti σ (sp + 1) k = sCh sp k) := by
  obtain ⟨i, hi, hsp⟩ := hs
  have hR0 := hP.2.2.2.1 sp (by omega)
  have hR1 := hP.2.2.2.1 (sp + 1) (by omega)
  refine ⟨Or.inr ⟨by omega, ?_⟩, ?_, Or.inr ⟨by omega, ?_⟩, ?_, ?_, fun k => ?_⟩
  · refine hR0.1.trans ?_
    unfold roK
    rw [if_pos (by omega), if_pos (by omega)]
  · have : gR (tg σ) sp = roR sp := hR0.2.2.2
    rw [this]
    unfold roR
    rw [if_pos (by omega), if_pos (by omega), if_pos rfl]
  · refine hR1.1.trans ?_
    unfold roK
    rw [if_pos (by omega), if_neg (by omega)]
  · have : ti σ sp = roI sp := hR0.2.2.1
    rw [this]
    unfold roI
    rw [if_pos (by omega), if_pos (by omega)]
  · refine hR1.2.1.trans ?_
    unfold roL sLn
    rw [if_pos (by omega), show (sp + 1 - 1) / 2 = (sp - 1) / 2 by omega]
  · have : ti σ (sp + 1) = roI (sp + 1) := hR1.2.2.1
    rw [this]
    unfold roI sCh
    rw [if_pos (by omega), if_neg (by omega), show (sp + 1 - 1) / 2 = (sp - 1) / 2 by omega]
variable {st0 : List Value}
theorem tw_slen {sp index : Nat} (X : CX p s m args c meth cc nL ret own D dA ad A) (hP : PW D dA A s.heap ad (TH σ) H locs) (hl : LH ad ls nL lv) (hs : isStr sp) (hlink : Cond.methodLink own index ⟨"java/lang/String", "length", "()I"⟩ ∈ lw_all) {k8 : Nat} (hrest : (rest.map fun v => v.category).sum ≤ k8) (h8 : k8 ≤ 8) (hR : 8 ≤ R.frames ∧ 200 ≤ R.locals) (hdg : decode cc pc = .ok (.invokevirtual index, 3)) (hroom : cells ≤ R.cells ∧ slots ≤ R.slots)
    (kk : ∀ (H1 : Heap) (locs1 : List Loc), PW D dA A s.heap ad (TH σ) H1 locs1 → W p l e R s m args below meth c H1 locs1 cells slots Q (F0 m (pc + 3) ls (.int (sLen sp) :: rest))) : W p l e R s m args below meth c H locs cells slots Q (F0 m pc ls (rv ad sp :: rest)) := by
  have hPg : PW D dA A s.heap ad (HS (tg σ) (ti σ)) H locs := hP
  obtain ⟨hk, hv, hb, hc, hlen, hch⟩ := tws_facts hPg hs
  refine cg_callRi [] X hPg (str_nz hPg hk) (str_recv X hPg hk) (Q1 := fun r ι' => r = sLen sp ∧ ι' = ti σ) (met_J9_length l D dA ad _ _ _ (by
    refine ⟨hk, by rw [hv]; exact hb, hk, by rw [hc]; rfl, ?_, rfl⟩
    rw [hc, hv, hlen, sh0]
    rfl)) (cwV 0 X.2.2.2.2.1 (lw_V hlink q322 q323 q109 q324) rfl rfl rfl (by decide +kernel) ⟨Nat.le_trans (Nat.le_of_ble_eq_true rfl) hR.1, Nat.le_trans (Nat.le_of_ble_eq_true rfl) hR.2⟩) rfl hl hrest h8 hroom hdg rfl (fun r ι' H1 locs1 hq hP1 => ?_)
  obtain ⟨rfl, rfl⟩ := hq
  exact kk H1 locs1 hP1
theorem tw_sch {sp index : Nat} {i : Int32} (X : CX p s m args c meth cc nL ret own D dA ad A) (hP : PW D dA A s.heap ad (TH σ) H locs) (hl : LH ad ls nL lv) (hs : isStr sp) (hin : vp_in i (sLn sp)) (hlink : Cond.methodLink own index ⟨"java/lang/String", "charAt", "(I)C"⟩ ∈ lw_all) {k8 : Nat} (hrest : (rest.map fun v => v.category).sum ≤ k8) (h8 : k8 ≤ 8) (hR : 8 ≤ R.frames ∧ 200 ≤ R.locals) (hdg : decode cc pc = .ok (.invokevirtual index, 3)) (hroom : cells ≤ R.cells ∧ slots ≤ R.slots)
    (kk : ∀ (H1 : Heap) (locs1 : List Loc), PW D dA A s.heap ad (TH σ) H1 locs1 → W p l e R s m args below meth c H1 locs1 cells slots Q (F0 m (pc + 3) ls (.int (sCh sp i.toNatClampNeg) :: rest))) : W p l e R s m args below meth c H locs cells slots Q (F0 m pc ls (.int i :: rv ad sp :: rest)) := by
  have hPg : PW D dA A s.heap ad (HS (tg σ) (ti σ)) H locs := hP
  obtain ⟨hk, hv, hb, hc, hlen, hch⟩ := tws_facts hPg hs
  obtain ⟨i9, hi9, hsp9⟩ := id hs
  have h8b : ¬ (i < 0 ∨ sLn sp ≤ i.toNatClampNeg) := hin
  have hLn : sLn sp = strLen.getD i9 0 := by
    unfold sLn
    rw [show (sp - 1) / 2 = i9 by omega]
  have h7 := ch_ok i9 hi9 i.toNatClampNeg (by
    rw [hLn] at h8b
    omega)
  have hch9 : sCh sp i.toNatClampNeg = (strByt.getD i9 []).getD i.toNatClampNeg 0 := by
    unfold sCh
    rw [show (sp - 1) / 2 = i9 by omega]
  have hL := len_ok i9 hi9
  have hin1 : ¬ i < 0 := fun h => hin (Or.inl h)
  have hin2 : i < nI (sLn sp) := by
    rw [Int32.lt_iff_toInt_lt, nI_toInt (by omega)]
    have h10 : (i.toNatClampNeg : Int) = i.toInt ∨ i.toInt < 0 := by
      unfold Int32.toNatClampNeg
      omega
    omega
  refine cg_callRi [iX i] X hPg (str_nz hPg hk) (str_recv X hPg hk) (Q1 := fun r ι' => r = sCh sp i.toNatClampNeg ∧ ι' = ti σ) (met_J9_charAt l D dA ad _ _ _ (by
    refine ⟨hk, hk, fun h => absurd hc h, fun _ => ⟨by decide, by rw [hv]; exact hb, fun w hw => ⟨hin1, by rw [hv, hlen]; exact hin2, ?_⟩⟩⟩
    dsimp only
    rw [hv, hlen, hch, hch9, h7.1]
    exact ⟨hin, h7.2, h7.2, rfl, rfl⟩)) (cwV 1 X.2.2.2.2.1 (lw_V hlink q1408 q1409 q109 q1410) rfl rfl rfl (by decide +kernel) ⟨Nat.le_trans (Nat.le_of_ble_eq_true rfl) hR.1, Nat.le_trans (Nat.le_of_ble_eq_true rfl) hR.2⟩) rfl hl hrest h8 hroom hdg rfl (fun r ι' H1 locs1 hq hP1 => ?_)
  obtain ⟨rfl, rfl⟩ := hq
  exact kk H1 locs1 hP1
end TWS
