set_option maxRecDepth 100000
def slKind (c : Nat) : Int32 := if c = 14 then 0 else if c = 15 then 1 else if c = 16 then 3 else 2
def slTurned (c : Nat) : Int32 := if c = 16 then 0 else 1
def slWoken (c : Nat) : Int32 := if c = 15 then 0 else if c = 16 then 0 else 1
def slSnoring (c : Nat) : Int32 := if c = 17 then 1 else 0
def slSore (c : Nat) (f : Nat → Int32) (side minutes : Int32) : Int32 := if c = 16 then 0 else if minutes < (if side = 0 then f 0 else f 1) then 0 else 1
section CG5
variable {p : Program} {l : Launch} {e : Env} {R : Room} {s : State} {m : MethodId} {args : Array Value} {below : List Frame} {meth : Method} {c : Code} {H : Heap} {locs : List Loc} {cells slots : Nat} {Q : State → Prop}
variable {cc : ByteArray} {nL pc : Nat} {ret : Option FieldType} {ls : Array Slot} {rest : List Value} {D : va_G} {dA : Nat → ClassId} {ad : Nat → Nat} {A : Nat → Prop} {h : HT} {own : String} {pl : Nat} {lv : List (Nat × TV)}
variable {g : GT} {ι : S} {index : Nat} {st0 : List Value}
theorem cg_pSore {g : GT} {ι : S} {pl : Nat} {x1 x2 v : Int32} (hk : isSl (gK g pl)) (hv : v = if x2 < (if x1 = 0 then ι pl 0 else ι pl 1) then 0 else 1) : P_X16_isSore g pl x1 x2 ι (fun r ι' => r = v ∧ ι' = ι) := by
  unfold P_X16_isSore P_X16_isSore_16
  subst hv
  refine ⟨fun c1 => ⟨hk, ?_⟩, fun c1 => ⟨hk, ?_⟩⟩
  · rw [if_neg c1]
    exact ⟨fun c => ⟨(if_pos c).symm, rfl⟩, fun c => ⟨(if_neg c).symm, rfl⟩⟩
  · rw [if_pos c1]
    exact ⟨fun c => ⟨(if_pos c).symm, rfl⟩, fun c => ⟨(if_neg c).symm, rfl⟩⟩
theorem cg_pSore18 {g : GT} {ι : S} {pl : Nat} {x1 x2 v : Int32} (h : gK g pl = 16) (hv : v = 0) : P_X18_isSore g pl x1 x2 ι (fun r ι' => r = v ∧ ι' = ι) := by
  subst hv
  simp [P_X18_isSore, P_X18_isTurned, P_X16_isTurned, h]

theorem cg_v_kind (X : CX p s m args c meth cc nL ret own D dA ad A) (hP : PW D dA A s.heap ad (HS g ι) H locs) (hl : LH ad ls nL lv) (hk : isSl (gK g pl)) (hlink : Cond.methodLink own index yX16_kind ∈ lw_all) {k8 : Nat} (hrest : (rest.map fun v => v.category).sum ≤ k8) (h8 : k8 ≤ 8) (hR : 3 ≤ R.frames ∧ 80 ≤ R.locals) (hroom : cells ≤ R.cells ∧ slots ≤ R.slots) (hdg : decode cc pc = .ok (.invokevirtual index, 3))
    (kk : ∀ (H1 : Heap) (locs1 : List Loc), PW D dA A s.heap ad (HS g ι) H1 locs1 → W p l e R s m args below meth c H1 locs1 cells slots Q (F0 m (pc + 3) ls (.int (slKind (gK g pl)) :: rest))) : W p l e R s m args below meth c H locs cells slots Q (F0 m pc ls (rv ad pl :: rest)) := by
  rcases hk with h | h | h | h
  · have hv : slKind (gK g pl) = 0 := by rw [h]; rfl
    refine cg_callUi (C := RX16) [] X hP (cg_nz (ci := 13) hP h (by omega)) (cg_recv (ci := 13) X hP h (by omega) rfl) (met_X16_kind l D dA ad g _ _ (Q := fun r ι' => r = slKind (gK g pl) ∧ ι' = ι) (by simp [P_X16_kind, h, slKind])) (va_cwU (owner := RX16) 0 X.2.2.2.2.1 (lw_U hlink q1588 q1587 q1586 q135 q1599) rfl rfl rfl rfl (by decide +kernel) ⟨Nat.le_trans (Nat.le_of_ble_eq_true rfl) hR.1, Nat.le_trans (Nat.le_of_ble_eq_true rfl) hR.2⟩) rfl hl hrest h8 hroom hdg rfl (fun r ι' H1 locs1 hq hP1 => ?_)
    obtain ⟨rfl, rfl⟩ := hq
    exact kk H1 locs1 hP1
  · have hv : slKind (gK g pl) = 1 := by rw [h]; rfl
    refine cg_callUi (C := RX17) [] X hP (cg_nz (ci := 14) hP h (by omega)) (cg_recv (ci := 14) X hP h (by omega) rfl) (met_X17_kind l D dA ad g _ _ (Q := fun r ι' => r = slKind (gK g pl) ∧ ι' = ι) (by simp [P_X17_kind, h, slKind])) (va_cwO (owner := RX16) 0 X.2.2.2.2.1 (lw_O hlink q1588 q1586 q1589 q1590 q136 q1591) rfl rfl rfl q1599 (by decide +kernel) ⟨Nat.le_trans (Nat.le_of_ble_eq_true rfl) hR.1, Nat.le_trans (Nat.le_of_ble_eq_true rfl) hR.2⟩) rfl hl hrest h8 hroom hdg rfl (fun r ι' H1 locs1 hq hP1 => ?_)
    obtain ⟨rfl, rfl⟩ := hq
    exact kk H1 locs1 hP1
  · have hv : slKind (gK g pl) = 3 := by rw [h]; rfl
    refine cg_callUi (C := RX18) [] X hP (cg_nz (ci := 15) hP h (by omega)) (cg_recv (ci := 15) X hP h (by omega) rfl) (met_X18_kind l D dA ad g _ _ (Q := fun r ι' => r = slKind (gK g pl) ∧ ι' = ι) (by simp [P_X18_kind, P_X17_kind, h, slKind])) (va_cwO (owner := RX16) 0 X.2.2.2.2.1 (lw_O hlink q1588 q1586 q1592 q1593 q137 q1594) rfl rfl rfl q1599 (by decide +kernel) ⟨Nat.le_trans (Nat.le_of_ble_eq_true rfl) hR.1, Nat.le_trans (Nat.le_of_ble_eq_true rfl) hR.2⟩) rfl hl hrest h8 hroom hdg rfl (fun r ι' H1 locs1 hq hP1 => ?_)
    obtain ⟨rfl, rfl⟩ := hq
    exact kk H1 locs1 hP1
  · have hv : slKind (gK g pl) = 2 := by rw [h]; rfl
    refine cg_callUi (C := RX19) [] X hP (cg_nz (ci := 16) hP h (by omega)) (cg_recv (ci := 16) X hP h (by omega) rfl) (met_X19_kind l D dA ad g _ _ (Q := fun r ι' => r = slKind (gK g pl) ∧ ι' = ι) (by simp [P_X19_kind, h, slKind])) (va_cwO (owner := RX16) 0 X.2.2.2.2.1 (lw_O hlink q1588 q1586 q1596 q1597 q138 q1598) rfl rfl rfl q1599 (by decide +kernel) ⟨Nat.le_trans (Nat.le_of_ble_eq_true rfl) hR.1, Nat.le_trans (Nat.le_of_ble_eq_true rfl) hR.2⟩) rfl hl hrest h8 hroom hdg rfl (fun r ι' H1 locs1 hq hP1 => ?_)
    obtain ⟨rfl, rfl⟩ := hq
    exact kk H1 locs1 hP1
theorem cg_v_isTurned (X : CX p s m args c meth cc nL ret own D dA ad A) (hP : PW D dA A s.heap ad (HS g ι) H locs) (hl : LH ad ls nL lv) (hk : isSl (gK g pl)) (hlink : Cond.methodLink own index yX16_isTurned ∈ lw_all) {k8 : Nat} (hrest : (rest.map fun v => v.category).sum ≤ k8) (h8 : k8 ≤ 8) (hR : 3 ≤ R.frames ∧ 80 ≤ R.locals) (hroom : cells ≤ R.cells ∧ slots ≤ R.slots) (hdg : decode cc pc = .ok (.invokevirtual index, 3))
    (kk : ∀ (H1 : Heap) (locs1 : List Loc), PW D dA A s.heap ad (HS g ι) H1 locs1 → W p l e R s m args below meth c H1 locs1 cells slots Q (F0 m (pc + 3) ls (.int (slTurned (gK g pl)) :: rest))) : W p l e R s m args below meth c H locs cells slots Q (F0 m pc ls (rv ad pl :: rest)) := by
  rcases hk with h | h | h | h
  · have hv : slTurned (gK g pl) = 1 := by rw [h]; rfl
    refine cg_callUi (C := RX16) [] X hP (cg_nz (ci := 13) hP h (by omega)) (cg_recv (ci := 13) X hP h (by omega) rfl) (met_X16_isTurned l D dA ad g _ _ (Q := fun r ι' => r = slTurned (gK g pl) ∧ ι' = ι) (by simp [P_X16_isTurned, h, slTurned])) (va_cwU (owner := RX16) 0 X.2.2.2.2.1 (lw_U hlink q990 q989 q988 q135 q1000) rfl rfl rfl rfl (by decide +kernel) ⟨Nat.le_trans (Nat.le_of_ble_eq_true rfl) hR.1, Nat.le_trans (Nat.le_of_ble_eq_true rfl) hR.2⟩) rfl hl hrest h8 hroom hdg rfl (fun r ι' H1 locs1 hq hP1 => ?_)
    obtain ⟨rfl, rfl⟩ := hq
    exact kk H1 locs1 hP1
  · have hv : slTurned (gK g pl) = 1 := by rw [h]; rfl
    refine cg_callUi (C := RX17) [] X hP (cg_nz (ci := 14) hP h (by omega)) (cg_recv (ci := 14) X hP h (by omega) rfl) (met_X16_isTurned l D dA ad g _ _ (Q := fun r ι' => r = slTurned (gK g pl) ∧ ι' = ι) (by simp [P_X16_isTurned, h, slTurned])) (va_cwU (owner := RX16) 0 X.2.2.2.2.1 (lw_U hlink q990 q991 q988 q135 q1000) rfl rfl rfl rfl (by decide +kernel) ⟨Nat.le_trans (Nat.le_of_ble_eq_true rfl) hR.1, Nat.le_trans (Nat.le_of_ble_eq_true rfl) hR.2⟩) rfl hl hrest h8 hroom hdg rfl (fun r ι' H1 locs1 hq hP1 => ?_)
    obtain ⟨rfl, rfl⟩ := hq
    exact kk H1 locs1 hP1
  · have hv : slTurned (gK g pl) = 0 := by rw [h]; rfl
    refine cg_callUi (C := RX18) [] X hP (cg_nz (ci := 15) hP h (by omega)) (cg_recv (ci := 15) X hP h (by omega) rfl) (met_X18_isTurned l D dA ad g _ _ (Q := fun r ι' => r = slTurned (gK g pl) ∧ ι' = ι) (by simp [P_X18_isTurned, P_X16_isTurned, h, slTurned])) (va_cwO (owner := RX16) 0 X.2.2.2.2.1 (lw_O hlink q990 q988 q992 q993 q137 q994) rfl rfl rfl q1000 (by decide +kernel) ⟨Nat.le_trans (Nat.le_of_ble_eq_true rfl) hR.1, Nat.le_trans (Nat.le_of_ble_eq_true rfl) hR.2⟩) rfl hl hrest h8 hroom hdg rfl (fun r ι' H1 locs1 hq hP1 => ?_)
    obtain ⟨rfl, rfl⟩ := hq
    exact kk H1 locs1 hP1
  · have hv : slTurned (gK g pl) = 1 := by rw [h]; rfl
    refine cg_callUi (C := RX19) [] X hP (cg_nz (ci := 16) hP h (by omega)) (cg_recv (ci := 16) X hP h (by omega) rfl) (met_X16_isTurned l D dA ad g _ _ (Q := fun r ι' => r = slTurned (gK g pl) ∧ ι' = ι) (by simp [P_X16_isTurned, h, slTurned])) (va_cwU (owner := RX16) 0 X.2.2.2.2.1 (lw_U hlink q990 q1001 q988 q135 q1000) rfl rfl rfl rfl (by decide +kernel) ⟨Nat.le_trans (Nat.le_of_ble_eq_true rfl) hR.1, Nat.le_trans (Nat.le_of_ble_eq_true rfl) hR.2⟩) rfl hl hrest h8 hroom hdg rfl (fun r ι' H1 locs1 hq hP1 => ?_)
    obtain ⟨rfl, rfl⟩ := hq
    exact kk H1 locs1 hP1
theorem cg_v_isWoken (X : CX p s m args c meth cc nL ret own D dA ad A) (hP : PW D dA A s.heap ad (HS g ι) H locs) (hl : LH ad ls nL lv) (hk : isSl (gK g pl)) (hlink : Cond.methodLink own index yX16_isWoken ∈ lw_all) {k8 : Nat} (hrest : (rest.map fun v => v.category).sum ≤ k8) (h8 : k8 ≤ 8) (hR : 3 ≤ R.frames ∧ 80 ≤ R.locals) (hroom : cells ≤ R.cells ∧ slots ≤ R.slots) (hdg : decode cc pc = .ok (.invokevirtual index, 3))
    (kk : ∀ (H1 : Heap) (locs1 : List Loc), PW D dA A s.heap ad (HS g ι) H1 locs1 → W p l e R s m args below meth c H1 locs1 cells slots Q (F0 m (pc + 3) ls (.int (slWoken (gK g pl)) :: rest))) : W p l e R s m args below meth c H locs cells slots Q (F0 m pc ls (rv ad pl :: rest)) := by
  rcases hk with h | h | h | h
  · have hv : slWoken (gK g pl) = 1 := by rw [h]; rfl
    refine cg_callUi (C := RX16) [] X hP (cg_nz (ci := 13) hP h (by omega)) (cg_recv (ci := 13) X hP h (by omega) rfl) (met_X16_isWoken l D dA ad g _ _ (Q := fun r ι' => r = slWoken (gK g pl) ∧ ι' = ι) (by simp [P_X16_isWoken, h, slWoken])) (va_cwU (owner := RX16) 0 X.2.2.2.2.1 (lw_U hlink q1009 q1008 q1007 q135 q1014) rfl rfl rfl rfl (by decide +kernel) ⟨Nat.le_trans (Nat.le_of_ble_eq_true rfl) hR.1, Nat.le_trans (Nat.le_of_ble_eq_true rfl) hR.2⟩) rfl hl hrest h8 hroom hdg rfl (fun r ι' H1 locs1 hq hP1 => ?_)
    obtain ⟨rfl, rfl⟩ := hq
    exact kk H1 locs1 hP1
  · have hv : slWoken (gK g pl) = 0 := by rw [h]; rfl
    refine cg_callUi (C := RX17) [] X hP (cg_nz (ci := 14) hP h (by omega)) (cg_recv (ci := 14) X hP h (by omega) rfl) (met_X17_isWoken l D dA ad g _ _ (Q := fun r ι' => r = slWoken (gK g pl) ∧ ι' = ι) (by simp [P_X17_isWoken, P_X16_isWoken, h, slWoken])) (va_cwO (owner := RX16) 0 X.2.2.2.2.1 (lw_O hlink q1009 q1007 q1010 q1011 q136 q1012) rfl rfl rfl q1014 (by decide +kernel) ⟨Nat.le_trans (Nat.le_of_ble_eq_true rfl) hR.1, Nat.le_trans (Nat.le_of_ble_eq_true rfl) hR.2⟩) rfl hl hrest h8 hroom hdg rfl (fun r ι' H1 locs1 hq hP1 => ?_)
    obtain ⟨rfl, rfl⟩ := hq
    exact kk H1 locs1 hP1
  · have hv : slWoken (gK g pl) = 0 := by rw [h]; rfl
    refine cg_callUi (C := RX18) [] X hP (cg_nz (ci := 15) hP h (by omega)) (cg_recv (ci := 15) X hP h (by omega) rfl) (met_X17_isWokenD l D dA ad g _ _ (Q := fun r ι' => r = slWoken (gK g pl) ∧ ι' = ι) (by simp [P_X17_isWokenD, P_X16_isWoken, h, slWoken])) (va_cwO (owner := RX16) 0 X.2.2.2.2.1 (lw_O hlink q1009 q1007 q1015 q1011 q136 q1012) rfl rfl rfl q1014 (by decide +kernel) ⟨Nat.le_trans (Nat.le_of_ble_eq_true rfl) hR.1, Nat.le_trans (Nat.le_of_ble_eq_true rfl) hR.2⟩) rfl hl hrest h8 hroom hdg rfl (fun r ι' H1 locs1 hq hP1 => ?_)
    obtain ⟨rfl, rfl⟩ := hq
    exact kk H1 locs1 hP1
  · have hv : slWoken (gK g pl) = 1 := by rw [h]; rfl
    refine cg_callUi (C := RX19) [] X hP (cg_nz (ci := 16) hP h (by omega)) (cg_recv (ci := 16) X hP h (by omega) rfl) (met_X16_isWoken l D dA ad g _ _ (Q := fun r ι' => r = slWoken (gK g pl) ∧ ι' = ι) (by simp [P_X16_isWoken, h, slWoken])) (va_cwU (owner := RX16) 0 X.2.2.2.2.1 (lw_U hlink q1009 q1016 q1007 q135 q1014) rfl rfl rfl rfl (by decide +kernel) ⟨Nat.le_trans (Nat.le_of_ble_eq_true rfl) hR.1, Nat.le_trans (Nat.le_of_ble_eq_true rfl) hR.2⟩) rfl hl hrest h8 hroom hdg rfl (fun r ι' H1 locs1 hq hP1 => ?_)
    obtain ⟨rfl, rfl⟩ := hq
    exact kk H1 locs1 hP1
theorem cg_v_isSnoring (X : CX p s m args c meth cc nL ret own D dA ad A) (hP : PW D dA A s.heap ad (HS g ι) H locs) (hl : LH ad ls nL lv) (hk : isSl (gK g pl)) (hlink : Cond.methodLink own index yX16_isSnoring ∈ lw_all) {k8 : Nat} (hrest : (rest.map fun v => v.category).sum ≤ k8) (h8 : k8 ≤ 8) (hR : 3 ≤ R.frames ∧ 80 ≤ R.locals) (hroom : cells ≤ R.cells ∧ slots ≤ R.slots) (hdg : decode cc pc = .ok (.invokevirtual index, 3))
    (kk : ∀ (H1 : Heap) (locs1 : List Loc), PW D dA A s.heap ad (HS g ι) H1 locs1 → W p l e R s m args below meth c H1 locs1 cells slots Q (F0 m (pc + 3) ls (.int (slSnoring (gK g pl)) :: rest))) : W p l e R s m args below meth c H locs cells slots Q (F0 m pc ls (rv ad pl :: rest)) := by
  rcases hk with h | h | h | h
  · have hv : slSnoring (gK g pl) = 0 := by rw [h]; rfl
    refine cg_callUi (C := RX16) [] X hP (cg_nz (ci := 13) hP h (by omega)) (cg_recv (ci := 13) X hP h (by omega) rfl) (met_X16_isSnoring l D dA ad g _ _ (Q := fun r ι' => r = slSnoring (gK g pl) ∧ ι' = ι) (by simp [P_X16_isSnoring, h, slSnoring])) (va_cwU (owner := RX16) 0 X.2.2.2.2.1 (lw_U hlink q1055 q1054 q1053 q135 q1063) rfl rfl rfl rfl (by decide +kernel) ⟨Nat.le_trans (Nat.le_of_ble_eq_true rfl) hR.1, Nat.le_trans (Nat.le_of_ble_eq_true rfl) hR.2⟩) rfl hl hrest h8 hroom hdg rfl (fun r ι' H1 locs1 hq hP1 => ?_)
    obtain ⟨rfl, rfl⟩ := hq
    exact kk H1 locs1 hP1
  · have hv : slSnoring (gK g pl) = 0 := by rw [h]; rfl
    refine cg_callUi (C := RX17) [] X hP (cg_nz (ci := 14) hP h (by omega)) (cg_recv (ci := 14) X hP h (by omega) rfl) (met_X16_isSnoring l D dA ad g _ _ (Q := fun r ι' => r = slSnoring (gK g pl) ∧ ι' = ι) (by simp [P_X16_isSnoring, h, slSnoring])) (va_cwU (owner := RX16) 0 X.2.2.2.2.1 (lw_U hlink q1055 q1056 q1053 q135 q1063) rfl rfl rfl rfl (by decide +kernel) ⟨Nat.le_trans (Nat.le_of_ble_eq_true rfl) hR.1, Nat.le_trans (Nat.le_of_ble_eq_true rfl) hR.2⟩) rfl hl hrest h8 hroom hdg rfl (fun r ι' H1 locs1 hq hP1 => ?_)
    obtain ⟨rfl, rfl⟩ := hq
    exact kk H1 locs1 hP1
  · have hv : slSnoring (gK g pl) = 0 := by rw [h]; rfl
    refine cg_callUi (C := RX18) [] X hP (cg_nz (ci := 15) hP h (by omega)) (cg_recv (ci := 15) X hP h (by omega) rfl) (met_X16_isSnoring l D dA ad g _ _ (Q := fun r ι' => r = slSnoring (gK g pl) ∧ ι' = ι) (by simp [P_X16_isSnoring, h, slSnoring])) (va_cwU (owner := RX16) 0 X.2.2.2.2.1 (lw_U hlink q1055 q1057 q1053 q135 q1063) rfl rfl rfl rfl (by decide +kernel) ⟨Nat.le_trans (Nat.le_of_ble_eq_true rfl) hR.1, Nat.le_trans (Nat.le_of_ble_eq_true rfl) hR.2⟩) rfl hl hrest h8 hroom hdg rfl (fun r ι' H1 locs1 hq hP1 => ?_)
    obtain ⟨rfl, rfl⟩ := hq
    exact kk H1 locs1 hP1
  · have hv : slSnoring (gK g pl) = 1 := by rw [h]; rfl
    refine cg_callUi (C := RX19) [] X hP (cg_nz (ci := 16) hP h (by omega)) (cg_recv (ci := 16) X hP h (by omega) rfl) (met_X19_isSnoring l D dA ad g _ _ (Q := fun r ι' => r = slSnoring (gK g pl) ∧ ι' = ι) (by simp [P_X19_isSnoring, P_X16_isSnoring, h, slSnoring])) (va_cwO (owner := RX16) 0 X.2.2.2.2.1 (lw_O hlink q1055 q1053 q1058 q1059 q138 q1060) rfl rfl rfl q1063 (by decide +kernel) ⟨Nat.le_trans (Nat.le_of_ble_eq_true rfl) hR.1, Nat.le_trans (Nat.le_of_ble_eq_true rfl) hR.2⟩) rfl hl hrest h8 hroom hdg rfl (fun r ι' H1 locs1 hq hP1 => ?_)
    obtain ⟨rfl, rfl⟩ := hq
    exact kk H1 locs1 hP1
theorem cg_v_isSore {x1 x2 : Int32} (X : CX p s m args c meth cc nL ret own D dA ad A) (hP : PW D dA A s.heap ad (HS g ι) H locs) (hl : LH ad ls nL lv) (hk : isSl (gK g pl)) (hlink : Cond.methodLink own index yX16_isSore ∈ lw_all) {k8 : Nat} (hrest : (rest.map fun v => v.category).sum ≤ k8) (h8 : k8 ≤ 8) (hR : 3 ≤ R.frames ∧ 80 ≤ R.locals) (hroom : cells ≤ R.cells ∧ slots ≤ R.slots) (hdg : decode cc pc = .ok (.invokevirtual index, 3))
    (kk : ∀ (H1 : Heap) (locs1 : List Loc), PW D dA A s.heap ad (HS g ι) H1 locs1 → W p l e R s m args below meth c H1 locs1 cells slots Q (F0 m (pc + 3) ls (.int (slSore (gK g pl) (ι pl) x1 x2) :: rest))) : W p l e R s m args below meth c H locs cells slots Q (F0 m pc ls (.int x2 :: .int x1 :: rv ad pl :: rest)) := by
  rcases hk with h | h | h | h
  · have hv : slSore (gK g pl) (ι pl) x1 x2 = if x2 < (if x1 = 0 then ι pl 0 else ι pl 1) then 0 else 1 := by rw [h]; rfl
    refine cg_callUi (C := RX16) [iX x1, iX x2] X hP (cg_nz (ci := 13) hP h (by omega)) (cg_recv (ci := 13) X hP h (by omega) rfl) (met_X16_isSore l D dA ad g _ _ (Q := fun r ι' => r = slSore (gK g pl) (ι pl) x1 x2 ∧ ι' = ι) (cg_pSore (by unfold isSl; omega) hv)) (va_cwU (owner := RX16) 2 X.2.2.2.2.1 (lw_U hlink q1101 q1100 q1099 q135 q1110) rfl rfl rfl rfl (by decide +kernel) ⟨Nat.le_trans (Nat.le_of_ble_eq_true rfl) hR.1, Nat.le_trans (Nat.le_of_ble_eq_true rfl) hR.2⟩) rfl hl hrest h8 hroom hdg rfl (fun r ι' H1 locs1 hq hP1 => ?_)
    obtain ⟨rfl, rfl⟩ := hq
    exact kk H1 locs1 hP1
  · have hv : slSore (gK g pl) (ι pl) x1 x2 = if x2 < (if x1 = 0 then ι pl 0 else ι pl 1) then 0 else 1 := by rw [h]; rfl
    refine cg_callUi (C := RX17) [iX x1, iX x2] X hP (cg_nz (ci := 14) hP h (by omega)) (cg_recv (ci := 14) X hP h (by omega) rfl) (met_X16_isSore l D dA ad g _ _ (Q := fun r ι' => r = slSore (gK g pl) (ι pl) x1 x2 ∧ ι' = ι) (cg_pSore (by unfold isSl; omega) hv)) (va_cwU (owner := RX16) 2 X.2.2.2.2.1 (lw_U hlink q1101 q1102 q1099 q135 q1110) rfl rfl rfl rfl (by decide +kernel) ⟨Nat.le_trans (Nat.le_of_ble_eq_true rfl) hR.1, Nat.le_trans (Nat.le_of_ble_eq_true rfl) hR.2⟩) rfl hl hrest h8 hroom hdg rfl (fun r ι' H1 locs1 hq hP1 => ?_)
    obtain ⟨rfl, rfl⟩ := hq
    exact kk H1 locs1 hP1
  · have hv : slSore (gK g pl) (ι pl) x1 x2 = 0 := by rw [h]; rfl
    refine cg_callUi (C := RX18) [iX x1, iX x2] X hP (cg_nz (ci := 15) hP h (by omega)) (cg_recv (ci := 15) X hP h (by omega) rfl) (met_X18_isSore l D dA ad g _ _ (Q := fun r ι' => r = slSore (gK g pl) (ι pl) x1 x2 ∧ ι' = ι) (cg_pSore18 h hv)) (va_cwO (owner := RX16) 2 X.2.2.2.2.1 (lw_O hlink q1101 q1099 q1103 q1104 q137 q1105) rfl rfl rfl q1110 (by decide +kernel) ⟨Nat.le_trans (Nat.le_of_ble_eq_true rfl) hR.1, Nat.le_trans (Nat.le_of_ble_eq_true rfl) hR.2⟩) rfl hl hrest h8 hroom hdg rfl (fun r ι' H1 locs1 hq hP1 => ?_)
    obtain ⟨rfl, rfl⟩ := hq
    exact kk H1 locs1 hP1
  · have hv : slSore (gK g pl) (ι pl) x1 x2 = if x2 < (if x1 = 0 then ι pl 0 else ι pl 1) then 0 else 1 := by rw [h]; rfl
    refine cg_callUi (C := RX19) [iX x1, iX x2] X hP (cg_nz (ci := 16) hP h (by omega)) (cg_recv (ci := 16) X hP h (by omega) rfl) (met_X16_isSore l D dA ad g _ _ (Q := fun r ι' => r = slSore (gK g pl) (ι pl) x1 x2 ∧ ι' = ι) (cg_pSore (by unfold isSl; omega) hv)) (va_cwU (owner := RX16) 2 X.2.2.2.2.1 (lw_U hlink q1101 q1111 q1099 q135 q1110) rfl rfl rfl rfl (by decide +kernel) ⟨Nat.le_trans (Nat.le_of_ble_eq_true rfl) hR.1, Nat.le_trans (Nat.le_of_ble_eq_true rfl) hR.2⟩) rfl hl hrest h8 hroom hdg rfl (fun r ι' H1 locs1 hq hP1 => ?_)
    obtain ⟨rfl, rfl⟩ := hq
    exact kk H1 locs1 hP1
theorem met_ordinal (l : Launch) (D : va_G) (dA : Nat → ClassId) (ad : Nat → Nat) (g : GT) (ι : S) (sz : Nat) {k : Nat} (hk : k < 7) {Q : Int32 → S → Prop} (hF : Q (nI k) ι) : CGi l yJ17_ordinal cJ17_ordinal 1 .int ({ frames := 0, cells := 0, slots := 0, locals := 0 } : Room) D dA ad g ι sz [pX (105 + k)] Q := by
  refine ph_enter [pX (105 + k)] (Qc := fun A => va_Qi (GQi g Q) (CB D dA ad A) A) (by decide +kernel) (Nat.le_of_ble_eq_true rfl) ?_
  intro p e s m args below meth c A ls X hP hl hnm
  have hl : LH ad ls 1 [(0, pX (105 + k))] := hl
  refine ph_aload_n (n := 0) X hl dJ17_ordinal_0 rfl rfl ?_
  rw [rv_nz (by omega)]
  have hv : ([0, 1, 2, 3, 4, 5, 6] : List Int32).getD k 0 = nI k := by
    rcases ts_lt7 hk with h | h | h | h | h | h | h <;> subst h <;> rfl
  refine va_getE (ad := fun i => ad (105 + i)) (i := k) (q := ("java/lang/Enum", "ordinal", "I", [0, 1, 2, 3, 4, 5, 6])) (ref := "java/lang/Enum") X.1 X.2.1 X.2.2.2.2.2.2.1.2.2.2.2.2.1 hk hP.2.2.1 X.2.2.2.1 List.mem_cons_self (X.2.2.2.2.1 _ q2435) (fun _ q => q) dJ17_ordinal_1 ?_
  rw [hv]
  exact cg_iret X hP hF dJ17_ordinal_4
theorem cg_ordinal (X : CX p s m args c meth cc nL ret own D dA ad A) (hP : PW D dA A s.heap ad (HS g ι) H locs) (hl : LH ad ls nL lv) (hk : 105 ≤ pl ∧ pl < 112) (hlink : Cond.methodLink own index ⟨"SpoonRow$Value", "ordinal", "()I"⟩ ∈ lw_all) {k8 : Nat} (hrest : (rest.map fun v => v.category).sum ≤ k8) (h8 : k8 ≤ 8) (hR : 2 ≤ R.frames ∧ 40 ≤ R.locals) (hroom : cells ≤ R.cells ∧ slots ≤ R.slots) (hdg : decode cc pc = .ok (.invokevirtual index, 3))
    (kk : ∀ (H1 : Heap) (locs1 : List Loc), PW D dA A s.heap ad (HS g ι) H1 locs1 → W p l e R s m args below meth c H1 locs1 cells slots Q (F0 m (pc + 3) ls (.int (nI (pl - 105)) :: rest))) : W p l e R s m args below meth c H locs cells slots Q (F0 m pc ls (rv ad pl :: rest)) := by
  obtain ⟨k, rfl⟩ : ∃ k, pl = 105 + k := ⟨pl - 105, by omega⟩
  have hk7 : k < 7 := by omega
  refine cg_callUi (C := "SpoonRow$Value") [] X hP (by omega) (cg_recvV X hP hk7) (met_ordinal l D dA ad g _ _ hk7 (Q := fun r ι' => r = nI k ∧ ι' = ι) ⟨rfl, rfl⟩) (va_cwU (owner := "java/lang/Enum") 0 X.2.2.2.2.1 (lw_U hlink q1035 q1037 q1038 q120 q1039) rfl rfl rfl rfl (by decide +kernel) ⟨Nat.le_trans (Nat.le_of_ble_eq_true rfl) hR.1, Nat.le_trans (Nat.le_of_ble_eq_true rfl) hR.2⟩) rfl hl hrest h8 hroom hdg rfl (fun r ι' H1 locs1 hq hP1 => ?_)
  obtain ⟨rfl, rfl⟩ := hq
  have := kk H1 locs1 hP1
  rw [show 105 + k - 105 = k by omega] at this
  exact this
def yE_by : MethodName := ⟨"SpoonRow$Expr", "by", "(LSpoonRow$View;)I"⟩
/-- the contract of Expr.by at the place p, by its class -/
def BYC (l : Launch) (D : va_G) (dA : Nat → ClassId) (ad : Nat → Nat) (g : GT) (F L : Nat) (ι : S) (sz p v : Nat) (Q : Int32 → S → Prop) : Prop :=
  (gK g p = 10 ∧ CGi l yX12_by cX12_by 2 .int ({ frames := 0, cells := 0, slots := 0, locals := 0 } : Room) D dA ad g ι sz [pX p, pX v] Q) ∨ (gK g p = 11 ∧ CGi l yX13_by cX13_by 2 .int ({ frames := 2, cells := 0, slots := 0, locals := 40 } : Room) D dA ad g ι sz [pX p, pX v] Q) ∨
  (gK g p = 12 ∧ CGi l yX14_by cX14_by 4 .int ({ frames := F, cells := 0, slots := 0, locals := L } : Room) D dA ad g ι sz [pX p, pX v] Q) ∨ (gK g p = 13 ∧ CGi l yX15_by cX15_by 2 .int ({ frames := F, cells := 0, slots := 0, locals := L } : Room) D dA ad g ι sz [pX p, pX v] Q)
theorem cg_by {F L v : Nat} {Q1 : Int32 → S → Prop} (X : CX p s m args c meth cc nL ret own D dA ad A) (hP : PW D dA A s.heap ad (HS g ι) H locs) (hB : BYC l D dA ad g F L ι H.size pl v Q1) (hl : LH ad ls nL lv) (hlink : Cond.methodLink own index yE_by ∈ lw_all) {k8 : Nat} (hrest : (rest.map fun v => v.category).sum ≤ k8) (h8 : k8 ≤ 8) (hR : F + 3 ≤ R.frames ∧ L + 64 ≤ R.locals) (hroom : cells ≤ R.cells ∧ slots ≤ R.slots) (hdg : decode cc pc = .ok (.invokevirtual index, 3))
    (kk : ∀ (r : Int32) (ι' : S) (H1 : Heap) (locs1 : List Loc), Q1 r ι' → PW D dA A s.heap ad (HS g ι') H1 locs1 → W p l e R s m args below meth c H1 locs1 cells slots Q (F0 m (pc + 3) ls (.int r :: rest))) : W p l e R s m args below meth c H locs cells slots Q (F0 m pc ls (rv ad v :: rv ad pl :: rest)) := by
  obtain ⟨hR1, hR2⟩ := hR
  rcases hB with ⟨h, hM⟩ | ⟨h, hM⟩ | ⟨h, hM⟩ | ⟨h, hM⟩
  · exact cg_callUi (C := RX12) [pX v] X hP (cg_nz (ci := 9) hP h (by omega)) (cg_recv (ci := 9) X hP h (by omega) rfl) hM (va_cwA (x := yE_by) (owner := "SpoonRow$Expr") 1 X.2.2.2.2.1 (lw_U hlink q1070 q1085 q1081 q131 q1082) rfl rfl rfl (X.2.2.2.2.2.2.1.2.1 _ q1069 rfl) (by decide +kernel) (by constructor <;> (dsimp only) <;> omega)) rfl hl hrest h8 hroom hdg rfl kk
  · exact cg_callUi (C := RX13) [pX v] X hP (cg_nz (ci := 10) hP h (by omega)) (cg_recv (ci := 10) X hP h (by omega) rfl) hM (va_cwA (x := yE_by) (owner := "SpoonRow$Expr") 1 X.2.2.2.2.1 (lw_U hlink q1070 q1084 q1078 q132 q1079) rfl rfl rfl (X.2.2.2.2.2.2.1.2.1 _ q1069 rfl) (by decide +kernel) (by constructor <;> (dsimp only) <;> omega)) rfl hl hrest h8 hroom hdg rfl kk
  · exact cg_callUi (C := RX14) [pX v] X hP (cg_nz (ci := 11) hP h (by omega)) (cg_recv (ci := 11) X hP h (by omega) rfl) hM (va_cwA (x := yE_by) (owner := "SpoonRow$Expr") 1 X.2.2.2.2.1 (lw_U hlink q1070 q1071 q1072 q133 q1073) rfl rfl rfl (X.2.2.2.2.2.2.1.2.1 _ q1069 rfl) (by decide +kernel) (by constructor <;> (dsimp only) <;> omega)) rfl hl hrest h8 hroom hdg rfl kk
  · exact cg_callUi (C := RX15) [pX v] X hP (cg_nz (ci := 12) hP h (by omega)) (cg_recv (ci := 12) X hP h (by omega) rfl) hM (va_cwA (x := yE_by) (owner := "SpoonRow$Expr") 1 X.2.2.2.2.1 (lw_U hlink q1070 q1083 q1075 q134 q1076) rfl rfl rfl (X.2.2.2.2.2.2.1.2.1 _ q1069 rfl) (by decide +kernel) (by constructor <;> (dsimp only) <;> omega)) rfl hl hrest h8 hroom hdg rfl kk
end CG5
