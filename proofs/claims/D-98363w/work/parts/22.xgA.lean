set_option maxRecDepth 100000
section XGA
variable {p : Program} {l : Launch} {e : Env} {s : State} {m : MethodId} {args : Array Value} {below : List Frame} {meth : Method} {c : Code} {D : va_G} {dA : Nat → ClassId} {ad : Nat → Nat} {A : Nat → Prop} {g : GT}
def P_X1_there (g : GT) (Xq : Nat → S → Prop) (a0 : Int32) (ι : S) (Q : S → Prop) : Prop := ((¬ a0 = 0 → (Q ι)) ∧ (a0 = 0 → (Xq 1 ι)))
set_option maxHeartbeats 2000000 in
theorem met_X1_there (l : Launch) (D : va_G) (dA : Nat → ClassId) (ad : Nat → Nat) (g : GT) (hlt : l.stackTraces = false) (ι : S) (sz : Nat) {a0 : Int32} {Q : S → Prop} {Xq : Nat → S → Prop} (hF : P_X1_there g Xq a0 ι Q) : CEv l yX1_there cX1_there 1 ({ frames := 6, cells := 1, slots := 6, locals := 100 } : Room) D dA ad g ι sz [iX a0] Q Xq 1 6 := by
  unfold P_X1_there at hF
  refine xg_enter [iX a0] (Qc := fun A => va_Qv (GQv g Q) (CB D dA ad A) A) (XC := fun A => XCC D dA ad g A Xq) (by decide +kernel) (Nat.le_of_ble_eq_true rfl) ?_
  intro p e s m args below meth c A ls X hP hl hex
  have hl : LH ad ls 1 [(0, iX a0)] := hl
  refine ph_iload_n (n := 0) X hl dX1_there_0 rfl rfl ?_
  refine lv_if_ne (tgt := 12) X.1 X.2.1 dX1_there_1 (by decide) (fun c1 => ?_) (fun c1 => ?_)
  · have hF := hF.1 c1
    exact xg_vret X hP hF (Nat.le_of_ble_eq_true rfl) (Nat.le_of_ble_eq_true rfl) dX1_there_12
  · have hF := hF.2 c1
    exact xg_throw (k := 1) _ (Or.inl rfl) X hP hlt hex hF hl q1559 q139 at_N at_Ng at_Nh ⟨(Nat.le_of_ble_eq_true rfl), (Nat.le_of_ble_eq_true rfl), (Nat.le_of_ble_eq_true rfl), (Nat.le_of_ble_eq_true rfl)⟩ (Nat.le_of_ble_eq_true rfl) (Nat.le_of_ble_eq_true rfl) dX1_there_4 dX1_there_7 dX1_there_8 dX1_there_11
def P_X1_right (g : GT) (Xq : Nat → S → Prop) (a0 : Int32) (ι : S) (Q : S → Prop) : Prop := ((¬ a0 = 0 → (Q ι)) ∧ (a0 = 0 → (Xq 2 ι)))
set_option maxHeartbeats 2000000 in
theorem met_X1_right (l : Launch) (D : va_G) (dA : Nat → ClassId) (ad : Nat → Nat) (g : GT) (hlt : l.stackTraces = false) (ι : S) (sz : Nat) {a0 : Int32} {Q : S → Prop} {Xq : Nat → S → Prop} (hF : P_X1_right g Xq a0 ι Q) : CEv l yX1_right cX1_right 1 ({ frames := 6, cells := 1, slots := 6, locals := 100 } : Room) D dA ad g ι sz [iX a0] Q Xq 1 6 := by
  unfold P_X1_right at hF
  refine xg_enter [iX a0] (Qc := fun A => va_Qv (GQv g Q) (CB D dA ad A) A) (XC := fun A => XCC D dA ad g A Xq) (by decide +kernel) (Nat.le_of_ble_eq_true rfl) ?_
  intro p e s m args below meth c A ls X hP hl hex
  have hl : LH ad ls 1 [(0, iX a0)] := hl
  refine ph_iload_n (n := 0) X hl dX1_right_0 rfl rfl ?_
  refine lv_if_ne (tgt := 12) X.1 X.2.1 dX1_right_1 (by decide) (fun c1 => ?_) (fun c1 => ?_)
  · have hF := hF.1 c1
    exact xg_vret X hP hF (Nat.le_of_ble_eq_true rfl) (Nat.le_of_ble_eq_true rfl) dX1_right_12
  · have hF := hF.2 c1
    exact xg_throw (k := 2) _ (Or.inr rfl) X hP hlt hex hF hl q1164 q106 at_I at_Ig at_Ih ⟨(Nat.le_of_ble_eq_true rfl), (Nat.le_of_ble_eq_true rfl), (Nat.le_of_ble_eq_true rfl), (Nat.le_of_ble_eq_true rfl)⟩ (Nat.le_of_ble_eq_true rfl) (Nat.le_of_ble_eq_true rfl) dX1_right_4 dX1_right_7 dX1_right_8 dX1_right_11
def P_X1_sleeperAt_17 (g : GT) (Xq : Nat → S → Prop) (Q : Nat → S → Prop) (y0 : Int32) (x0 : Nat) (x1 : Int32) (ι : S) : Prop := (P_X1_there g Xq y0 ι (fun ι2 => (gK g x0 = 2 ∧ (gK g (gR g x0 0) = 3 ∧ (gK g (gR g (gR g x0 0) 6) = 18 ∧ (P_J2_get g (gR g (gR g x0 0) 6) x1 ι2 (fun r6 ι7 => (isSl (gK g r6) ∧ (Q r6 ι7)))))))))
def P_X1_sleeperAt_16 (g : GT) (Xq : Nat → S → Prop) (Q : Nat → S → Prop) (x0 : Nat) (x1 : Int32) (ι : S) : Prop := (P_X1_sleeperAt_17 g Xq Q 0 x0 x1 ι)
def P_X1_sleeperAt (g : GT) (Xq : Nat → S → Prop) (a0 : Nat) (a1 : Int32) (ι : S) (Q : Nat → S → Prop) : Prop := ((a1 < 0 → (P_X1_sleeperAt_16 g Xq Q a0 a1 ι)) ∧ (¬ a1 < 0 → (gK g a0 = 2 ∧ (P_X1_sleepers g a0 ι (fun r11 ι12 => ((r11 ≤ a1 → (P_X1_sleeperAt_16 g Xq Q a0 a1 ι12)) ∧ (¬ r11 ≤ a1 → (P_X1_sleeperAt_17 g Xq Q 1 a0 a1 ι12))))))))
set_option maxHeartbeats 2000000 in
theorem w_X1_sleeperAt_17 (X : CX p s m args c meth cX1_sleeperAt 2 (some (.object "SpoonRow$Sleeper")) RX1 D dA ad A) (hlt : l.stackTraces = false) (hex : ∀ x ∈ c.exceptionTable.toList, False) {Xq : Nat → S → Prop} {Q : Nat → S → Prop} : ∀ (y0 : Int32) (x0 : Nat) (x1 : Int32) (ι : S) (H : Heap) (locs : List Loc) (ls : Array Slot), P_X1_sleeperAt_17 g Xq Q y0 x0 x1 ι → PW D dA A s.heap ad (HS g ι) H locs → LH ad ls 2 [(0, pX x0), (1, iX x1)] → WEq p l e ({ frames := 7, cells := 1, slots := 6, locals := 120 } : Room) s m args below meth c D dA ad A g Q Xq 1 6 H locs 0 0 (F0 m 17 ls [.int y0]) := by
  intro y0 x0 x1 ι H locs ls hF hP hl
  unfold P_X1_sleeperAt_17 at hF
  refine xg_callSv [iX y0] X hP hex (met_X1_there l D dA ad g hlt _ _ hF) (va_cwS 1 X.2.2.2.2.1 (lw_S q1556 q1557 q98 q1558) rfl rfl rfl (by decide +kernel) ⟨(Nat.le_of_ble_eq_true rfl), (Nat.le_of_ble_eq_true rfl)⟩) rfl hl (k8 := 0) (cs0 (k := 0)) (by decide) ⟨(Nat.le_of_ble_eq_true rfl), (Nat.le_of_ble_eq_true rfl)⟩ (Nat.le_of_ble_eq_true rfl) (Nat.le_of_ble_eq_true rfl) dX1_sleeperAt_17 rfl (fun ι2 H locs hF hP => ?_)
  refine ph_aload_n (n := 0) X hl dX1_sleeperAt_20 rfl rfl ?_
  obtain ⟨hm4, hF⟩ := hF
  refine cg_getr 1 0 X in_X1 hP hm4 q799 dX1_sleeperAt_21 ?_
  obtain ⟨hm5, hF⟩ := hF
  refine cg_getrN 2 6 X in_X2 hP hm5 q538 dX1_sleeperAt_24 ?_
  refine ph_iload_n (n := 1) X hl dX1_sleeperAt_27 rfl rfl ?_
  obtain ⟨hm9, hF⟩ := hF
  refine cg_callVq 17 [iX x1] X hP hm9 (met_J2_get l D dA ad g _ _ hF) (cwV 1 X.2.2.2.2.1 (lw_V q930 q778 q779 q102 q780) rfl rfl rfl (by decide +kernel) ⟨Nat.le_of_ble_eq_true rfl, Nat.le_of_ble_eq_true rfl⟩) rfl hl (k8 := 0) (cs0 (k := 0)) (by decide) ⟨(Nat.le_of_ble_eq_true rfl), (Nat.le_of_ble_eq_true rfl)⟩ dX1_sleeperAt_28 rfl (fun r6 ι7 H locs hF hv8 hP => ?_)
  obtain ⟨hm10, hF⟩ := hF
  refine cg_castSl X hP hm10 q1133 dX1_sleeperAt_31 ?_
  exact xg_aret X hP (Or.inl ⟨_, rfl⟩) hv8 hF (Nat.le_of_ble_eq_true rfl) (Nat.le_of_ble_eq_true rfl) dX1_sleeperAt_34
set_option maxHeartbeats 2000000 in
theorem w_X1_sleeperAt_16 (X : CX p s m args c meth cX1_sleeperAt 2 (some (.object "SpoonRow$Sleeper")) RX1 D dA ad A) (hlt : l.stackTraces = false) (hex : ∀ x ∈ c.exceptionTable.toList, False) {Xq : Nat → S → Prop} {Q : Nat → S → Prop} : ∀ (x0 : Nat) (x1 : Int32) (ι : S) (H : Heap) (locs : List Loc) (ls : Array Slot), P_X1_sleeperAt_16 g Xq Q x0 x1 ι → PW D dA A s.heap ad (HS g ι) H locs → LH ad ls 2 [(0, pX x0), (1, iX x1)] → WEq p l e ({ frames := 7, cells := 1, slots := 6, locals := 120 } : Room) s m args below meth c D dA ad A g Q Xq 1 6 H locs 0 0 (F0 m 16 ls []) := by
  intro x0 x1 ι H locs ls hF hP hl
  unfold P_X1_sleeperAt_16 at hF
  refine lv_iconst (v := 0) X.1 X.2.1 dX1_sleeperAt_16 (by decide) ?_
  exact w_X1_sleeperAt_17 X hlt hex _ _ _ _ _ _ _ hF hP hl
set_option maxHeartbeats 2000000 in
theorem met_X1_sleeperAt (l : Launch) (D : va_G) (dA : Nat → ClassId) (ad : Nat → Nat) (g : GT) (hlt : l.stackTraces = false) (ι : S) (sz : Nat) {a0 : Nat} {a1 : Int32} {Q : Nat → S → Prop} {Xq : Nat → S → Prop} (hF : P_X1_sleeperAt g Xq a0 a1 ι Q) : CEq l yX1_sleeperAt cX1_sleeperAt 2 (.object "SpoonRow$Sleeper") ({ frames := 7, cells := 1, slots := 6, locals := 120 } : Room) D dA ad g ι sz [pX a0, iX a1] Q Xq 1 6 := by
  unfold P_X1_sleeperAt at hF
  refine xg_enter [pX a0, iX a1] (Qc := fun A => va_Qq (fun (r : Option Nat) (u : HT) => ∃ v, r = ro ad v ∧ v < 200 + hN u ∧ GQq g Q v u) (CB D dA ad A) A) (XC := fun A => XCC D dA ad g A Xq) (by decide +kernel) (Nat.le_of_ble_eq_true rfl) ?_
  intro p e s m args below meth c A ls X hP hl hex
  have hl : LH ad ls 2 [(0, pX a0), (1, iX a1)] := hl
  refine ph_iload_n (n := 1) X hl dX1_sleeperAt_0 rfl rfl ?_
  refine lv_if_lt (tgt := 16) X.1 X.2.1 dX1_sleeperAt_1 (by decide) (fun c16 => ?_) (fun c16 => ?_)
  · have hF := hF.1 c16
    exact w_X1_sleeperAt_16 X hlt hex _ _ _ _ _ _ hF hP hl
  · have hF := hF.2 c16
    refine ph_iload_n (n := 1) X hl dX1_sleeperAt_4 rfl rfl ?_
    refine ph_aload_n (n := 0) X hl dX1_sleeperAt_5 rfl rfl ?_
    obtain ⟨hm14, hF⟩ := hF
    refine cg_callVi 1 [] X hP hm14 (met_X1_sleepers l D dA ad g _ _ hF) (cwV 0 X.2.2.2.2.1 (lw_V q883 q885 qs6 q98 q886) rfl rfl rfl (by decide +kernel) ⟨Nat.le_of_ble_eq_true rfl, Nat.le_of_ble_eq_true rfl⟩) rfl hl (k8 := 1) (csi (cs0 (k := 0))) (by decide) ⟨(Nat.le_of_ble_eq_true rfl), (Nat.le_of_ble_eq_true rfl)⟩ dX1_sleeperAt_6 rfl (fun r11 ι12 H locs hF hP => ?_)
    refine lv_icmp_ge (tgt := 16) X.1 X.2.1 dX1_sleeperAt_9 (by decide) (fun c15 => ?_) (fun c15 => ?_)
    · have hF := hF.1 c15
      exact w_X1_sleeperAt_16 X hlt hex _ _ _ _ _ _ hF hP hl
    · have hF := hF.2 c15
      refine lv_iconst (v := 1) X.1 X.2.1 dX1_sleeperAt_12 (by decide) ?_
      refine lv_goto (tgt := 17) X.1 X.2.1 dX1_sleeperAt_13 (by decide) ?_
      exact w_X1_sleeperAt_17 X hlt hex _ _ _ _ _ _ _ hF hP hl
def P_X1_count (g : GT) (Xq : Nat → S → Prop) (a0 : Nat) (a1 : Int32) (ι : S) (Q : Int32 → S → Prop) : Prop := (P_X1_within g a1 0 16 ι (fun r1 ι2 => (P_X1_there g Xq r1 ι2 (fun ι5 => ((a1 = 0 → (gK g a0 = 2 ∧ (P_X1_sleepers g a0 ι5 (fun r8 ι9 => (Q r8 ι9))))) ∧ (a1 = 1 → (gK g a0 = 2 ∧ (gK g (gR g a0 0) = 3 ∧ (Q (ι5 (gR g a0 0) 0) ι5)))) ∧ (a1 = 2 → (gK g a0 = 2 ∧ (gK g (gR g a0 0) = 3 ∧ (Q (ι5 (gR g a0 0) 1) ι5)))) ∧ (a1 = 3 → (gK g a0 = 2 ∧ (gK g (gR g a0 0) = 3 ∧ (Q (ι5 (gR g a0 0) 2) ι5)))) ∧ (a1 = 4 → (gK g a0 = 2 ∧ (gK g (gR g a0 0) = 3 ∧ (Q (ι5 (gR g a0 0) 3) ι5)))) ∧ (a1 = 5 → (gK g a0 = 2 ∧ (gK g (gR g a0 3) = 6 ∧ (Q (ι5 (gR g a0 3) 6) ι5)))) ∧ (a1 = 6 → (gK g a0 = 2 ∧ (gK g (gR g a0 0) = 3 ∧ (Q (ι5 (gR g a0 0) 5) ι5)))) ∧ (a1 = 7 → (gK g a0 = 2 ∧ (gK g (gR g a0 3) = 6 ∧ (Q (ι5 (gR g a0 3) 3) ι5)))) ∧ (a1 = 8 → (gK g a0 = 2 ∧ (gK g (gR g a0 3) = 6 ∧ (Q (ι5 (gR g a0 3) 4) ι5)))) ∧ (a1 = 9 → (gK g a0 = 2 ∧ (gK g (gR g a0 3) = 6 ∧ (Q (ι5 (gR g a0 3) 5) ι5)))) ∧ (a1 = 10 → (gK g a0 = 2 ∧ (gK g (gR g a0 3) = 6 ∧ (((ι5 (gR g a0 3) 7) = 0 → (Q 0 ι5)) ∧ (¬ (ι5 (gR g a0 3) 7) = 0 → (Q 1 ι5)))))) ∧ (a1 = 11 → (gK g a0 = 2 ∧ (gK g (gR g a0 1) = 5 ∧ (Q (ι5 (gR g a0 1) 6) ι5)))) ∧ (a1 = 12 → (gK g a0 = 2 ∧ (gK g (gR g a0 1) = 5 ∧ (Q (ι5 (gR g a0 1) 7) ι5)))) ∧ (a1 = 13 → (gK g a0 = 2 ∧ (Q (ι5 a0 14) ι5))) ∧ ((a1.toInt < 0 ∨ 13 < a1.toInt) → (gK g a0 = 2 ∧ (gK g (gR g a0 1) = 5 ∧ (gK g (gR g (gR g a0 1) 5) = 100 ∧ (vp_in (a1 - 14) (gL g (gR g (gR g a0 1) 5)) ∧ (Q (ι5 (gR g (gR g a0 1) 5) ((a1 - 14).toNatClampNeg)) ι5)))))))))))
set_option maxHeartbeats 2000000 in
theorem met_X1_count (l : Launch) (D : va_G) (dA : Nat → ClassId) (ad : Nat → Nat) (g : GT) (hlt : l.stackTraces = false) (ι : S) (sz : Nat) {a0 : Nat} {a1 : Int32} {Q : Int32 → S → Prop} {Xq : Nat → S → Prop} (hF : P_X1_count g Xq a0 a1 ι Q) : CEi l yX1_count cX1_count 2 .int ({ frames := 7, cells := 1, slots := 6, locals := 120 } : Room) D dA ad g ι sz [pX a0, iX a1] Q Xq 1 6 := by
  unfold P_X1_count at hF
  refine xg_enter [pX a0, iX a1] (Qc := fun A => va_Qi (GQi g Q) (CB D dA ad A) A) (XC := fun A => XCC D dA ad g A Xq) (by decide +kernel) (Nat.le_of_ble_eq_true rfl) ?_
  intro p e s m args below meth c A ls X hP hl hex
  have hl : LH ad ls 2 [(0, pX a0), (1, iX a1)] := hl
  refine ph_iload_n (n := 1) X hl dX1_count_0 rfl rfl ?_
  refine lv_iconst (v := 0) X.1 X.2.1 dX1_count_1 (by decide) ?_
  refine lv_bipush (v := 16) X.1 X.2.1 dX1_count_2 (by decide) ?_
  refine cg_callSi [iX a1, iX 0, iX 16] X hP (met_X1_within l D dA ad g _ _ hF) (va_cwS 3 X.2.2.2.2.1 (lw_S q919 q920 q98 q921) rfl rfl rfl (by decide +kernel) ⟨Nat.le_of_ble_eq_true rfl, Nat.le_of_ble_eq_true rfl⟩) rfl hl (k8 := 0) (cs0 (k := 0)) (by decide) ⟨(Nat.le_of_ble_eq_true rfl), (Nat.le_of_ble_eq_true rfl)⟩ dX1_count_4 rfl (fun r1 ι2 H locs hF hP => ?_)
  refine xg_callSv [iX r1] X hP hex (met_X1_there l D dA ad g hlt _ _ hF) (va_cwS 1 X.2.2.2.2.1 (lw_S q1556 q1557 q98 q1558) rfl rfl rfl (by decide +kernel) ⟨(Nat.le_of_ble_eq_true rfl), (Nat.le_of_ble_eq_true rfl)⟩) rfl hl (k8 := 0) (cs0 (k := 0)) (by decide) ⟨(Nat.le_of_ble_eq_true rfl), (Nat.le_of_ble_eq_true rfl)⟩ (Nat.le_of_ble_eq_true rfl) (Nat.le_of_ble_eq_true rfl) dX1_count_7 rfl (fun ι5 H locs hF hP => ?_)
  refine ph_iload_n (n := 1) X hl dX1_count_10 rfl rfl ?_
  rcases ts_cases a1 0 14 with ⟨j9, hs7⟩ | hs7
  · obtain ⟨hj9, hs7⟩ := hs7
    rcases ts_lt14 hj9 with rfl | rfl | rfl | rfl | rfl | rfl | rfl | rfl | rfl | rfl | rfl | rfl | rfl | rfl
    · have hx9 : a1 = 0 := hs7.trans (by decide)
      have hF := hF.1 hx9
      refine lv_tableIn (tgt := 80) (off := 69) X.1 X.2.1 dX1_count_11 (by rw [hx9]; decide) (by rw [hx9]; decide) (by rw [hx9]; decide) (by decide) ?_
      refine ph_aload_n (n := 0) X hl dX1_count_80 rfl rfl ?_
      obtain ⟨hm11, hF⟩ := hF
      refine cg_callVi 1 [] X hP hm11 (met_X1_sleepers l D dA ad g _ _ hF) (cwV 0 X.2.2.2.2.1 (lw_V q883 q885 qs6 q98 q886) rfl rfl rfl (by decide +kernel) ⟨Nat.le_of_ble_eq_true rfl, Nat.le_of_ble_eq_true rfl⟩) rfl hl (k8 := 0) (cs0 (k := 0)) (by decide) ⟨(Nat.le_of_ble_eq_true rfl), (Nat.le_of_ble_eq_true rfl)⟩ dX1_count_81 rfl (fun r8 ι9 H locs hF hP => ?_)
      exact xg_iret X hP hF (Nat.le_of_ble_eq_true rfl) (Nat.le_of_ble_eq_true rfl) dX1_count_84
    · have hx9 : a1 = 1 := hs7.trans (by decide)
      have hF := hF.2.1 hx9
      refine lv_tableIn (tgt := 85) (off := 74) X.1 X.2.1 dX1_count_11 (by rw [hx9]; decide) (by rw [hx9]; decide) (by rw [hx9]; decide) (by decide) ?_
      refine ph_aload_n (n := 0) X hl dX1_count_85 rfl rfl ?_
      obtain ⟨hm12, hF⟩ := hF
      refine cg_getr 1 0 X in_X1 hP hm12 q799 dX1_count_86 ?_
      obtain ⟨hm13, hF⟩ := hF
      refine cg_getiN 2 0 X in_X2 hP hm13 q518 dX1_count_89 ?_
      exact xg_iret X hP hF (Nat.le_of_ble_eq_true rfl) (Nat.le_of_ble_eq_true rfl) dX1_count_92
    · have hx9 : a1 = 2 := hs7.trans (by decide)
      have hF := hF.2.2.1 hx9
      refine lv_tableIn (tgt := 93) (off := 82) X.1 X.2.1 dX1_count_11 (by rw [hx9]; decide) (by rw [hx9]; decide) (by rw [hx9]; decide) (by decide) ?_
      refine ph_aload_n (n := 0) X hl dX1_count_93 rfl rfl ?_
      obtain ⟨hm14, hF⟩ := hF
      refine cg_getr 1 0 X in_X1 hP hm14 q799 dX1_count_94 ?_
      obtain ⟨hm15, hF⟩ := hF
      refine cg_getiN 2 1 X in_X2 hP hm15 q521 dX1_count_97 ?_
      exact xg_iret X hP hF (Nat.le_of_ble_eq_true rfl) (Nat.le_of_ble_eq_true rfl) dX1_count_100
    · have hx9 : a1 = 3 := hs7.trans (by decide)
      have hF := hF.2.2.2.1 hx9
      refine lv_tableIn (tgt := 101) (off := 90) X.1 X.2.1 dX1_count_11 (by rw [hx9]; decide) (by rw [hx9]; decide) (by rw [hx9]; decide) (by decide) ?_
      refine ph_aload_n (n := 0) X hl dX1_count_101 rfl rfl ?_
      obtain ⟨hm16, hF⟩ := hF
      refine cg_getr 1 0 X in_X1 hP hm16 q799 dX1_count_102 ?_
      obtain ⟨hm17, hF⟩ := hF
      refine cg_getiN 2 2 X in_X2 hP hm17 q524 dX1_count_105 ?_
      exact xg_iret X hP hF (Nat.le_of_ble_eq_true rfl) (Nat.le_of_ble_eq_true rfl) dX1_count_108
    · have hx9 : a1 = 4 := hs7.trans (by decide)
      have hF := hF.2.2.2.2.1 hx9
      refine lv_tableIn (tgt := 109) (off := 98) X.1 X.2.1 dX1_count_11 (by rw [hx9]; decide) (by rw [hx9]; decide) (by rw [hx9]; decide) (by decide) ?_
      refine ph_aload_n (n := 0) X hl dX1_count_109 rfl rfl ?_
      obtain ⟨hm18, hF⟩ := hF
      refine cg_getr 1 0 X in_X1 hP hm18 q799 dX1_count_110 ?_
      obtain ⟨hm19, hF⟩ := hF
      refine cg_getiN 2 3 X in_X2 hP hm19 q529 dX1_count_113 ?_
      exact xg_iret X hP hF (Nat.le_of_ble_eq_true rfl) (Nat.le_of_ble_eq_true rfl) dX1_count_116
    · have hx9 : a1 = 5 := hs7.trans (by decide)
      have hF := hF.2.2.2.2.2.1 hx9
      refine lv_tableIn (tgt := 117) (off := 106) X.1 X.2.1 dX1_count_11 (by rw [hx9]; decide) (by rw [hx9]; decide) (by rw [hx9]; decide) (by decide) ?_
      refine ph_aload_n (n := 0) X hl dX1_count_117 rfl rfl ?_
      obtain ⟨hm20, hF⟩ := hF
      refine cg_getr 1 3 X in_X1 hP hm20 q802 dX1_count_118 ?_
      obtain ⟨hm21, hF⟩ := hF
      refine cg_getiN 5 6 X in_X6 hP hm21 q598 dX1_count_121 ?_
      exact xg_iret X hP hF (Nat.le_of_ble_eq_true rfl) (Nat.le_of_ble_eq_true rfl) dX1_count_124
    · have hx9 : a1 = 6 := hs7.trans (by decide)
      have hF := hF.2.2.2.2.2.2.1 hx9
      refine lv_tableIn (tgt := 125) (off := 114) X.1 X.2.1 dX1_count_11 (by rw [hx9]; decide) (by rw [hx9]; decide) (by rw [hx9]; decide) (by decide) ?_
      refine ph_aload_n (n := 0) X hl dX1_count_125 rfl rfl ?_
      obtain ⟨hm22, hF⟩ := hF
      refine cg_getr 1 0 X in_X1 hP hm22 q799 dX1_count_126 ?_
      obtain ⟨hm23, hF⟩ := hF
      refine cg_getiN 2 5 X in_X2 hP hm23 q533 dX1_count_129 ?_
      exact xg_iret X hP hF (Nat.le_of_ble_eq_true rfl) (Nat.le_of_ble_eq_true rfl) dX1_count_132
    · have hx9 : a1 = 7 := hs7.trans (by decide)
      have hF := hF.2.2.2.2.2.2.2.1 hx9
      refine lv_tableIn (tgt := 133) (off := 122) X.1 X.2.1 dX1_count_11 (by rw [hx9]; decide) (by rw [hx9]; decide) (by rw [hx9]; decide) (by decide) ?_
      refine ph_aload_n (n := 0) X hl dX1_count_133 rfl rfl ?_
      obtain ⟨hm24, hF⟩ := hF
      refine cg_getr 1 3 X in_X1 hP hm24 q802 dX1_count_134 ?_
      obtain ⟨hm25, hF⟩ := hF
      refine cg_getiN 5 3 X in_X6 hP hm25 q590 dX1_count_137 ?_
      exact xg_iret X hP hF (Nat.le_of_ble_eq_true rfl) (Nat.le_of_ble_eq_true rfl) dX1_count_140
    · have hx9 : a1 = 8 := hs7.trans (by decide)
      have hF := hF.2.2.2.2.2.2.2.2.1 hx9
      refine lv_tableIn (tgt := 141) (off := 130) X.1 X.2.1 dX1_count_11 (by rw [hx9]; decide) (by rw [hx9]; decide) (by rw [hx9]; decide) (by decide) ?_
      refine ph_aload_n (n := 0) X hl dX1_count_141 rfl rfl ?_
      obtain ⟨hm26, hF⟩ := hF
      refine cg_getr 1 3 X in_X1 hP hm26 q802 dX1_count_142 ?_
      obtain ⟨hm27, hF⟩ := hF
      refine cg_getiN 5 4 X in_X6 hP hm27 q593 dX1_count_145 ?_
      exact xg_iret X hP hF (Nat.le_of_ble_eq_true rfl) (Nat.le_of_ble_eq_true rfl) dX1_count_148
    · have hx9 : a1 = 9 := hs7.trans (by decide)
      have hF := hF.2.2.2.2.2.2.2.2.2.1 hx9
      refine lv_tableIn (tgt := 149) (off := 138) X.1 X.2.1 dX1_count_11 (by rw [hx9]; decide) (by rw [hx9]; decide) (by rw [hx9]; decide) (by decide) ?_
      refine ph_aload_n (n := 0) X hl dX1_count_149 rfl rfl ?_
      obtain ⟨hm28, hF⟩ := hF
      refine cg_getr 1 3 X in_X1 hP hm28 q802 dX1_count_150 ?_
      obtain ⟨hm29, hF⟩ := hF
      refine cg_getiN 5 5 X in_X6 hP hm29 q596 dX1_count_153 ?_
      exact xg_iret X hP hF (Nat.le_of_ble_eq_true rfl) (Nat.le_of_ble_eq_true rfl) dX1_count_156
    · have hx9 : a1 = 10 := hs7.trans (by decide)
      have hF := hF.2.2.2.2.2.2.2.2.2.2.1 hx9
      refine lv_tableIn (tgt := 157) (off := 146) X.1 X.2.1 dX1_count_11 (by rw [hx9]; decide) (by rw [hx9]; decide) (by rw [hx9]; decide) (by decide) ?_
      refine ph_aload_n (n := 0) X hl dX1_count_157 rfl rfl ?_
      obtain ⟨hm30, hF⟩ := hF
      refine cg_getr 1 3 X in_X1 hP hm30 q802 dX1_count_158 ?_
      obtain ⟨hm31, hF⟩ := hF
      refine cg_getiN 5 7 X in_X6 hP hm31 q600 dX1_count_161 ?_
      refine lv_if_eq (tgt := 171) X.1 X.2.1 dX1_count_164 (by decide) (fun c32 => ?_) (fun c32 => ?_)
      · have hF := hF.1 c32
        refine lv_iconst (v := 0) X.1 X.2.1 dX1_count_171 (by decide) ?_
        exact xg_iret X hP hF (Nat.le_of_ble_eq_true rfl) (Nat.le_of_ble_eq_true rfl) dX1_count_172
      · have hF := hF.2 c32
        refine lv_iconst (v := 1) X.1 X.2.1 dX1_count_167 (by decide) ?_
        refine lv_goto (tgt := 172) X.1 X.2.1 dX1_count_168 (by decide) ?_
        exact xg_iret X hP hF (Nat.le_of_ble_eq_true rfl) (Nat.le_of_ble_eq_true rfl) dX1_count_172
    · have hx9 : a1 = 11 := hs7.trans (by decide)
      have hF := hF.2.2.2.2.2.2.2.2.2.2.2.1 hx9
      refine lv_tableIn (tgt := 173) (off := 162) X.1 X.2.1 dX1_count_11 (by rw [hx9]; decide) (by rw [hx9]; decide) (by rw [hx9]; decide) (by decide) ?_
      refine ph_aload_n (n := 0) X hl dX1_count_173 rfl rfl ?_
      obtain ⟨hm33, hF⟩ := hF
      refine cg_getr 1 1 X in_X1 hP hm33 q800 dX1_count_174 ?_
      obtain ⟨hm34, hF⟩ := hF
      refine cg_getiN 4 6 X in_X5 hP hm34 q689 dX1_count_177 ?_
      exact xg_iret X hP hF (Nat.le_of_ble_eq_true rfl) (Nat.le_of_ble_eq_true rfl) dX1_count_180
    · have hx9 : a1 = 12 := hs7.trans (by decide)
      have hF := hF.2.2.2.2.2.2.2.2.2.2.2.2.1 hx9
      refine lv_tableIn (tgt := 181) (off := 170) X.1 X.2.1 dX1_count_11 (by rw [hx9]; decide) (by rw [hx9]; decide) (by rw [hx9]; decide) (by decide) ?_
      refine ph_aload_n (n := 0) X hl dX1_count_181 rfl rfl ?_
      obtain ⟨hm35, hF⟩ := hF
      refine cg_getr 1 1 X in_X1 hP hm35 q800 dX1_count_182 ?_
      obtain ⟨hm36, hF⟩ := hF
      refine cg_getiN 4 7 X in_X5 hP hm36 q691 dX1_count_185 ?_
      exact xg_iret X hP hF (Nat.le_of_ble_eq_true rfl) (Nat.le_of_ble_eq_true rfl) dX1_count_188
    · have hx9 : a1 = 13 := hs7.trans (by decide)
      have hF := hF.2.2.2.2.2.2.2.2.2.2.2.2.2.1 hx9
      refine lv_tableIn (tgt := 189) (off := 178) X.1 X.2.1 dX1_count_11 (by rw [hx9]; decide) (by rw [hx9]; decide) (by rw [hx9]; decide) (by decide) ?_
      refine ph_aload_n (n := 0) X hl dX1_count_189 rfl rfl ?_
      obtain ⟨hm37, hF⟩ := hF
      refine cg_geti 1 14 X in_X1 hP hm37 q813 dX1_count_190 ?_
      exact xg_iret X hP hF (Nat.le_of_ble_eq_true rfl) (Nat.le_of_ble_eq_true rfl) dX1_count_193
  · have hs7 : a1.toInt < 0 ∨ 13 < a1.toInt := by omega
    have hF := hF.2.2.2.2.2.2.2.2.2.2.2.2.2.2 hs7
    refine lv_tableOut (tgt := 194) X.1 X.2.1 dX1_count_11 hs7 (by decide) ?_
    refine ph_aload_n (n := 0) X hl dX1_count_194 rfl rfl ?_
    obtain ⟨hm38, hF⟩ := hF
    refine cg_getr 1 1 X in_X1 hP hm38 q800 dX1_count_195 ?_
    obtain ⟨hm39, hF⟩ := hF
    refine cg_getrN 4 5 X in_X5 hP hm39 q687 dX1_count_198 ?_
    refine ph_iload_n (n := 1) X hl dX1_count_201 rfl rfl ?_
    refine lv_bipush (v := 14) X.1 X.2.1 dX1_count_202 (by decide) ?_
    refine lv_isub X.1 X.2.1 dX1_count_204 ?_
    obtain ⟨hm40, hF⟩ := hF
    obtain ⟨hr41, hF⟩ := hF
    refine cg_iald X hP hm40 hr41 (k := (a1 - 14).toNatClampNeg) rfl dX1_count_205 ?_
    exact xg_iret X hP hF (Nat.le_of_ble_eq_true rfl) (Nat.le_of_ble_eq_true rfl) dX1_count_206
def P_X1_sleeper (g : GT) (Xq : Nat → S → Prop) (a0 : Nat) (a1 : Int32) (a2 : Int32) (ι : S) (Q : Int32 → S → Prop) : Prop := (gK g a0 = 2 ∧ (P_X1_sleeperAt g Xq a0 a1 ι (fun r1 ι2 => (P_X1_within g a2 0 8 ι2 (fun r5 ι6 => (P_X1_there g Xq r5 ι6 (fun ι9 => ((a2 = 0 → (isSl (gK g r1) ∧ (Q (slKind (gK g r1)) ι9))) ∧ (a2 = 1 → (isSl (gK g r1) ∧ (Q (ι9 r1 0) ι9))) ∧ (a2 = 2 → (isSl (gK g r1) ∧ (Q (ι9 r1 1) ι9))) ∧ (a2 = 3 → (isSl (gK g r1) ∧ (Q (ι9 r1 2) ι9))) ∧ (a2 = 4 → (isSl (gK g r1) ∧ (Q (ι9 r1 3) ι9))) ∧ (a2 = 5 → (gK g (gR g a0 3) = 6 ∧ (gK g (gR g (gR g a0 3) 1) = 100 ∧ (vp_in a1 (gL g (gR g (gR g a0 3) 1)) ∧ (Q (ι9 (gR g (gR g a0 3) 1) a1.toNatClampNeg) ι9))))) ∧ (a2 = 6 → (isSl (gK g r1) ∧ (Q (ι9 r1 5) ι9))) ∧ (a2 = 7 → (gK g (gR g a0 3) = 6 ∧ (P_X6_placeOf g (gR g a0 3) a1 ι9 (fun r24 ι25 => (Q r24 ι25))))) ∧ ((a2.toInt < 0 ∨ 7 < a2.toInt) → (gK g (gR g a0 0) = 3 ∧ (gK g (gR g (gR g a0 0) 7) = 100 ∧ (vp_in a1 (gL g (gR g (gR g a0 0) 7)) ∧ (Q (ι9 (gR g (gR g a0 0) 7) a1.toNatClampNeg) ι9)))))))))))))
set_option maxHeartbeats 2000000 in
theorem met_X1_sleeper (l : Launch) (D : va_G) (dA : Nat → ClassId) (ad : Nat → Nat) (g : GT) (hlt : l.stackTraces = false) (ι : S) (sz : Nat) {a0 : Nat} {a1 : Int32} {a2 : Int32} {Q : Int32 → S → Prop} {Xq : Nat → S → Prop} (hF : P_X1_sleeper g Xq a0 a1 a2 ι Q) : CEi l yX1_sleeper cX1_sleeper 4 .int ({ frames := 8, cells := 2, slots := 12, locals := 141 } : Room) D dA ad g ι sz [pX a0, iX a1, iX a2] Q Xq 2 12 := by
  unfold P_X1_sleeper at hF
  refine xg_enter [pX a0, iX a1, iX a2] (Qc := fun A => va_Qi (GQi g Q) (CB D dA ad A) A) (XC := fun A => XCC D dA ad g A Xq) (by decide +kernel) (Nat.le_of_ble_eq_true rfl) ?_
  intro p e s m args below meth c A ls X hP hl hex
  have hl : LH ad ls 4 [(0, pX a0), (1, iX a1), (2, iX a2)] := hl
  refine ph_aload_n (n := 0) X hl dX1_sleeper_0 rfl rfl ?_
  refine ph_iload_n (n := 1) X hl dX1_sleeper_1 rfl rfl ?_
  obtain ⟨hm4, hF⟩ := hF
  refine xg_callVq 1 [iX a1] X hP hex hm4 (met_X1_sleeperAt l D dA ad g hlt _ _ hF) (cwV 1 X.2.2.2.2.1 (lw_V q1581 q1583 qs40 q98 q1584) rfl rfl rfl (by decide +kernel) ⟨(Nat.le_of_ble_eq_true rfl), (Nat.le_of_ble_eq_true rfl)⟩) rfl hl (k8 := 0) (cs0 (k := 0)) (by decide) ⟨(Nat.le_of_ble_eq_true rfl), (Nat.le_of_ble_eq_true rfl)⟩ (Nat.le_of_ble_eq_true rfl) (Nat.le_of_ble_eq_true rfl) dX1_sleeper_2 rfl (fun r1 ι2 H locs hF hv3 hP => ?_)
  refine ph_astore_n X hl dX1_sleeper_5 rfl (by decide) rfl (fun ls hl => ?_)
  refine ph_iload_n (n := 3) X hl dX1_sleeper_6 rfl rfl ?_
  refine lv_iconst (v := 0) X.1 X.2.1 dX1_sleeper_7 (by decide) ?_
  refine lv_bipush (v := 8) X.1 X.2.1 dX1_sleeper_8 (by decide) ?_
  refine cg_callSi [iX a2, iX 0, iX 8] X hP (met_X1_within l D dA ad g _ _ hF) (va_cwS 3 X.2.2.2.2.1 (lw_S q919 q920 q98 q921) rfl rfl rfl (by decide +kernel) ⟨Nat.le_of_ble_eq_true rfl, Nat.le_of_ble_eq_true rfl⟩) rfl hl (k8 := 0) (cs0 (k := 0)) (by decide) ⟨(Nat.le_of_ble_eq_true rfl), (Nat.le_of_ble_eq_true rfl)⟩ dX1_sleeper_10 rfl (fun r5 ι6 H locs hF hP => ?_)
  refine xg_callSv [iX r5] X hP hex (met_X1_there l D dA ad g hlt _ _ hF) (va_cwS 1 X.2.2.2.2.1 (lw_S q1556 q1557 q98 q1558) rfl rfl rfl (by decide +kernel) ⟨(Nat.le_of_ble_eq_true rfl), (Nat.le_of_ble_eq_true rfl)⟩) rfl hl (k8 := 0) (cs0 (k := 0)) (by decide) ⟨(Nat.le_of_ble_eq_true rfl), (Nat.le_of_ble_eq_true rfl)⟩ (Nat.le_of_ble_eq_true rfl) (Nat.le_of_ble_eq_true rfl) dX1_sleeper_13 rfl (fun ι9 H locs hF hP => ?_)
  refine ph_iload_n (n := 3) X hl dX1_sleeper_16 rfl rfl ?_
  rcases ts_cases a2 0 8 with ⟨j9, hs11⟩ | hs11
  · obtain ⟨hj9, hs11⟩ := hs11
    rcases ts_lt8 hj9 with rfl | rfl | rfl | rfl | rfl | rfl | rfl | rfl
    · have hx9 : a2 = 0 := hs11.trans (by decide)
      have hF := hF.1 hx9
      refine lv_tableIn (tgt := 64) (off := 47) X.1 X.2.1 dX1_sleeper_17 (by rw [hx9]; decide) (by rw [hx9]; decide) (by rw [hx9]; decide) (by decide) ?_
      refine ph_aload_n (n := 0) X hl dX1_sleeper_64 rfl rfl ?_
      obtain ⟨hm15, hF⟩ := hF
      refine cg_v_kind X hP hl hm15 q1585 (k8 := 0) (cs0 (k := 0)) (by decide) ⟨Nat.le_of_ble_eq_true rfl, Nat.le_of_ble_eq_true rfl⟩ ⟨(Nat.le_of_ble_eq_true rfl), (Nat.le_of_ble_eq_true rfl)⟩ dX1_sleeper_65 (fun H locs hP => ?_)
      exact xg_iret X hP hF (Nat.le_of_ble_eq_true rfl) (Nat.le_of_ble_eq_true rfl) dX1_sleeper_68
    · have hx9 : a2 = 1 := hs11.trans (by decide)
      have hF := hF.2.1 hx9
      refine lv_tableIn (tgt := 69) (off := 52) X.1 X.2.1 dX1_sleeper_17 (by rw [hx9]; decide) (by rw [hx9]; decide) (by rw [hx9]; decide) (by decide) ?_
      refine ph_aload_n (n := 0) X hl dX1_sleeper_69 rfl rfl ?_
      obtain ⟨hm16, hF⟩ := hF
      refine cg_getSl 0 X hP hm16 q1490 dX1_sleeper_70 ?_
      exact xg_iret X hP hF (Nat.le_of_ble_eq_true rfl) (Nat.le_of_ble_eq_true rfl) dX1_sleeper_73
    · have hx9 : a2 = 2 := hs11.trans (by decide)
      have hF := hF.2.2.1 hx9
      refine lv_tableIn (tgt := 74) (off := 57) X.1 X.2.1 dX1_sleeper_17 (by rw [hx9]; decide) (by rw [hx9]; decide) (by rw [hx9]; decide) (by decide) ?_
      refine ph_aload_n (n := 0) X hl dX1_sleeper_74 rfl rfl ?_
      obtain ⟨hm17, hF⟩ := hF
      refine cg_getSl 1 X hP hm17 q1492 dX1_sleeper_75 ?_
      exact xg_iret X hP hF (Nat.le_of_ble_eq_true rfl) (Nat.le_of_ble_eq_true rfl) dX1_sleeper_78
    · have hx9 : a2 = 3 := hs11.trans (by decide)
      have hF := hF.2.2.2.1 hx9
      refine lv_tableIn (tgt := 79) (off := 62) X.1 X.2.1 dX1_sleeper_17 (by rw [hx9]; decide) (by rw [hx9]; decide) (by rw [hx9]; decide) (by decide) ?_
      refine ph_aload_n (n := 0) X hl dX1_sleeper_79 rfl rfl ?_
      obtain ⟨hm18, hF⟩ := hF
      refine cg_getSl 2 X hP hm18 q1495 dX1_sleeper_80 ?_
      exact xg_iret X hP hF (Nat.le_of_ble_eq_true rfl) (Nat.le_of_ble_eq_true rfl) dX1_sleeper_83
    · have hx9 : a2 = 4 := hs11.trans (by decide)
      have hF := hF.2.2.2.2.1 hx9
      refine lv_tableIn (tgt := 84) (off := 67) X.1 X.2.1 dX1_sleeper_17 (by rw [hx9]; decide) (by rw [hx9]; decide) (by rw [hx9]; decide) (by decide) ?_
      refine ph_aload_n (n := 0) X hl dX1_sleeper_84 rfl rfl ?_
      obtain ⟨hm19, hF⟩ := hF
      refine cg_getSl 3 X hP hm19 q1498 dX1_sleeper_85 ?_
      exact xg_iret X hP hF (Nat.le_of_ble_eq_true rfl) (Nat.le_of_ble_eq_true rfl) dX1_sleeper_88
    · have hx9 : a2 = 5 := hs11.trans (by decide)
      have hF := hF.2.2.2.2.2.1 hx9
      refine lv_tableIn (tgt := 89) (off := 72) X.1 X.2.1 dX1_sleeper_17 (by rw [hx9]; decide) (by rw [hx9]; decide) (by rw [hx9]; decide) (by decide) ?_
      refine ph_aload_n (n := 1) X hl dX1_sleeper_89 rfl rfl ?_
      refine cg_getr 1 3 X in_X1 hP hm4 q802 dX1_sleeper_90 ?_
      obtain ⟨hm20, hF⟩ := hF
      refine cg_getrN 5 1 X in_X6 hP hm20 q585 dX1_sleeper_93 ?_
      refine ph_iload_n (n := 2) X hl dX1_sleeper_96 rfl rfl ?_
      obtain ⟨hm21, hF⟩ := hF
      obtain ⟨hr22, hF⟩ := hF
      refine cg_iald X hP hm21 hr22 (k := a1.toNatClampNeg) rfl dX1_sleeper_97 ?_
      exact xg_iret X hP hF (Nat.le_of_ble_eq_true rfl) (Nat.le_of_ble_eq_true rfl) dX1_sleeper_98
    · have hx9 : a2 = 6 := hs11.trans (by decide)
      have hF := hF.2.2.2.2.2.2.1 hx9
      refine lv_tableIn (tgt := 99) (off := 82) X.1 X.2.1 dX1_sleeper_17 (by rw [hx9]; decide) (by rw [hx9]; decide) (by rw [hx9]; decide) (by decide) ?_
      refine ph_aload_n (n := 0) X hl dX1_sleeper_99 rfl rfl ?_
      obtain ⟨hm23, hF⟩ := hF
      refine cg_getSl 5 X hP hm23 q1502 dX1_sleeper_100 ?_
      exact xg_iret X hP hF (Nat.le_of_ble_eq_true rfl) (Nat.le_of_ble_eq_true rfl) dX1_sleeper_103
    · have hx9 : a2 = 7 := hs11.trans (by decide)
      have hF := hF.2.2.2.2.2.2.2.1 hx9
      refine lv_tableIn (tgt := 104) (off := 87) X.1 X.2.1 dX1_sleeper_17 (by rw [hx9]; decide) (by rw [hx9]; decide) (by rw [hx9]; decide) (by decide) ?_
      refine ph_aload_n (n := 1) X hl dX1_sleeper_104 rfl rfl ?_
      refine cg_getr 1 3 X in_X1 hP hm4 q802 dX1_sleeper_105 ?_
      refine ph_iload_n (n := 2) X hl dX1_sleeper_108 rfl rfl ?_
      obtain ⟨hm27, hF⟩ := hF
      refine cg_callVi 5 [iX a1] X hP hm27 (met_X6_placeOf l D dA ad g _ _ hF) (cwV 1 X.2.2.2.2.1 (lw_V q1600 q1003 q1004 q123 q1005) rfl rfl rfl (by decide +kernel) ⟨Nat.le_of_ble_eq_true rfl, Nat.le_of_ble_eq_true rfl⟩) rfl hl (k8 := 0) (cs0 (k := 0)) (by decide) ⟨(Nat.le_of_ble_eq_true rfl), (Nat.le_of_ble_eq_true rfl)⟩ dX1_sleeper_109 rfl (fun r24 ι25 H locs hF hP => ?_)
      exact xg_iret X hP hF (Nat.le_of_ble_eq_true rfl) (Nat.le_of_ble_eq_true rfl) dX1_sleeper_112
  · have hs11 : a2.toInt < 0 ∨ 7 < a2.toInt := by omega
    have hF := hF.2.2.2.2.2.2.2.2 hs11
    refine lv_tableOut (tgt := 113) X.1 X.2.1 dX1_sleeper_17 hs11 (by decide) ?_
    refine ph_aload_n (n := 1) X hl dX1_sleeper_113 rfl rfl ?_
    refine cg_getr 1 0 X in_X1 hP hm4 q799 dX1_sleeper_114 ?_
    obtain ⟨hm28, hF⟩ := hF
    refine cg_getrN 2 7 X in_X2 hP hm28 q541 dX1_sleeper_117 ?_
    refine ph_iload_n (n := 2) X hl dX1_sleeper_120 rfl rfl ?_
    obtain ⟨hm29, hF⟩ := hF
    obtain ⟨hr30, hF⟩ := hF
    refine cg_iald X hP hm29 hr30 (k := a1.toNatClampNeg) rfl dX1_sleeper_121 ?_
    exact xg_iret X hP hF (Nat.le_of_ble_eq_true rfl) (Nat.le_of_ble_eq_true rfl) dX1_sleeper_122
def P_X1_night_62 (g : GT) (Xq : Nat → S → Prop) (Q : Int32 → S → Prop) : Nat → Nat → Int32 → Int32 → S → Prop
  | 0, _, _, _, _ => False
  | n + 1, x0, x2, x3, ι => (gK g x0 = 2 ∧ (P_X1_sleepers g x0 ι (fun r1 ι2 => ((r1 ≤ x3 → (Q x2 ι2)) ∧ (¬ r1 ≤ x3 → ((x2 = (-1) → (P_X1_night_62 g Xq Q  n x0 x3 (x3 + 1) ι2)) ∧ (¬ x2 = (-1) → (gK g (gR g x0 10) = 7 ∧ (gK g (gR g (gR g x0 10) 4) = 100 ∧ (vp_in x3 (gL g (gR g (gR g x0 10) 4)) ∧ (vp_in x2 (gL g (gR g (gR g x0 10) 4)) ∧ (((ι2 (gR g (gR g x0 10) 4) x3.toNatClampNeg) ≤ (ι2 (gR g (gR g x0 10) 4) x2.toNatClampNeg) → (P_X1_night_62 g Xq Q  n x0 x2 (x3 + 1) ι2)) ∧ (¬ (ι2 (gR g (gR g x0 10) 4) x3.toNatClampNeg) ≤ (ι2 (gR g (gR g x0 10) 4) x2.toNatClampNeg) → (P_X1_night_62 g Xq Q  n x0 x3 (x3 + 1) ι2))))))))))))))
def P_X1_night (g : GT) (Xq : Nat → S → Prop) (a0 : Nat) (a1 : Int32) (ι : S) (Q : Int32 → S → Prop) : Prop := (P_X1_within g a1 0 3 ι (fun r12 ι13 => (P_X1_there g Xq r12 ι13 (fun ι16 => (gK g a0 = 2 ∧ (gK g (gR g a0 10) = 7 ∧ (P_X7_all g (gR g a0 10) ι16 (fun ι20 => ((3 ≤ a1 → (∃ n9, P_X1_night_62 g Xq Q n9 a0 (-1) 0 ι20)) ∧ (¬ 3 ≤ a1 → ((¬ a1 = 0 → ((¬ a1 = 1 → (Q (ι20 (gR g a0 10) 12) ι20)) ∧ (a1 = 1 → (P_X7_wokenAll g (gR g a0 10) ι20 (fun r23 ι24 => (Q r23 ι24)))))) ∧ (a1 = 0 → (Q (ι20 (gR g a0 10) 11) ι20)))))))))))))
set_option maxHeartbeats 2000000 in
theorem w_X1_night_62 (X : CX p s m args c meth cX1_night 4 (some .int) RX1 D dA ad A) (hlt : l.stackTraces = false) (hex : ∀ x ∈ c.exceptionTable.toList, False) {Xq : Nat → S → Prop} {Q : Int32 → S → Prop} : ∀ (n : Nat) (x0 : Nat) (x2 : Int32) (x3 : Int32) (ι : S) (H : Heap) (locs : List Loc) (ls : Array Slot), P_X1_night_62 g Xq Q n x0 x2 x3 ι → PW D dA A s.heap ad (HS g ι) H locs → LH ad ls 4 [(0, pX x0), (2, iX x2), (3, iX x3)] → WEi p l e ({ frames := 2109, cells := 1, slots := 6, locals := 45001 } : Room) s m args below meth c D dA ad A g Q Xq 1 6 H locs 1 6 (F0 m 62 ls []) := by
  intro n
  induction n with
  | zero =>
    intro x0 x2 x3 ι H locs ls hF
    exact hF.elim
  | succ n ih =>
    intro x0 x2 x3 ι H locs ls hF hP hl
    rw [P_X1_night_62] at hF
    refine ph_iload_n (n := 2) X hl dX1_night_62 rfl rfl ?_
    refine ph_aload_n (n := 0) X hl dX1_night_63 rfl rfl ?_
    obtain ⟨hm4, hF⟩ := hF
    refine cg_callVi 1 [] X hP hm4 (met_X1_sleepers l D dA ad g _ _ hF) (cwV 0 X.2.2.2.2.1 (lw_V q883 q885 qs6 q98 q886) rfl rfl rfl (by decide +kernel) ⟨Nat.le_of_ble_eq_true rfl, Nat.le_of_ble_eq_true rfl⟩) rfl hl (k8 := 1) (csi (cs0 (k := 0))) (by decide) ⟨(Nat.le_of_ble_eq_true rfl), (Nat.le_of_ble_eq_true rfl)⟩ dX1_night_64 rfl (fun r1 ι2 H locs hF hP => ?_)
    refine lv_icmp_ge (tgt := 104) X.1 X.2.1 dX1_night_67 (by decide) (fun c11 => ?_) (fun c11 => ?_)
    · have hF := hF.1 c11
      refine ph_iload_n (n := 1) X hl dX1_night_104 rfl rfl ?_
      exact xg_iret X hP hF (Nat.le_of_ble_eq_true rfl) (Nat.le_of_ble_eq_true rfl) dX1_night_105
    · have hF := hF.2 c11
      refine ph_iload_n (n := 1) X hl dX1_night_70 rfl rfl ?_
      refine lv_iconst (v := (-1)) X.1 X.2.1 dX1_night_71 (by decide) ?_
      refine lv_icmp_eq (tgt := 96) X.1 X.2.1 dX1_night_72 (by decide) (fun c10 => ?_) (fun c10 => ?_)
      · have hF := hF.1 c10
        refine ph_iload_n (n := 2) X hl dX1_night_96 rfl rfl ?_
        refine ph_istore_n X hl dX1_night_97 rfl (by decide) rfl (fun ls hl => ?_)
        refine ph_iinc (v := x3 + 1) (k := 2) X hl dX1_night_98 rfl rfl (by decide) rfl (fun ls hl => ?_)
        refine lv_goto (tgt := 62) X.1 X.2.1 dX1_night_101 (by decide) ?_
        exact ih _ _ _ _ _ _ _ hF hP (lh_sub hl [2, 1, 0] rfl)
      · have hF := hF.2 c10
        refine ph_aload_n (n := 0) X hl dX1_night_75 rfl rfl ?_
        refine cg_getr 1 10 X in_X1 hP hm4 q809 dX1_night_76 ?_
        obtain ⟨hm5, hF⟩ := hF
        refine cg_getrN 6 4 X in_X7 hP hm5 q723 dX1_night_79 ?_
        refine ph_iload_n (n := 2) X hl dX1_night_82 rfl rfl ?_
        obtain ⟨hm6, hF⟩ := hF
        obtain ⟨hr7, hF⟩ := hF
        refine cg_iald X hP hm6 hr7 (k := x3.toNatClampNeg) rfl dX1_night_83 ?_
        refine ph_aload_n (n := 0) X hl dX1_night_84 rfl rfl ?_
        refine cg_getr 1 10 X in_X1 hP hm4 q809 dX1_night_85 ?_
        refine cg_getrN 6 4 X in_X7 hP hm5 q723 dX1_night_88 ?_
        refine ph_iload_n (n := 1) X hl dX1_night_91 rfl rfl ?_
        obtain ⟨hr8, hF⟩ := hF
        refine cg_iald X hP hm6 hr8 (k := x2.toNatClampNeg) rfl dX1_night_92 ?_
        refine lv_icmp_le (tgt := 98) X.1 X.2.1 dX1_night_93 (by decide) (fun c9 => ?_) (fun c9 => ?_)
        · have hF := hF.1 c9
          refine ph_iinc (v := x3 + 1) (k := 2) X hl dX1_night_98 rfl rfl (by decide) rfl (fun ls hl => ?_)
          refine lv_goto (tgt := 62) X.1 X.2.1 dX1_night_101 (by decide) ?_
          exact ih _ _ _ _ _ _ _ hF hP (lh_sub hl [1, 2, 0] rfl)
        · have hF := hF.2 c9
          refine ph_iload_n (n := 2) X hl dX1_night_96 rfl rfl ?_
          refine ph_istore_n X hl dX1_night_97 rfl (by decide) rfl (fun ls hl => ?_)
          refine ph_iinc (v := x3 + 1) (k := 2) X hl dX1_night_98 rfl rfl (by decide) rfl (fun ls hl => ?_)
          refine lv_goto (tgt := 62) X.1 X.2.1 dX1_night_101 (by decide) ?_
          exact ih _ _ _ _ _ _ _ hF hP (lh_sub hl [2, 1, 0] rfl)
set_option maxHeartbeats 2000000 in
theorem met_X1_night (l : Launch) (D : va_G) (dA : Nat → ClassId) (ad : Nat → Nat) (g : GT) (hlt : l.stackTraces = false) (ι : S) (sz : Nat) {a0 : Nat} {a1 : Int32} {Q : Int32 → S → Prop} {Xq : Nat → S → Prop} (hF : P_X1_night g Xq a0 a1 ι Q) : CEi l yX1_night cX1_night 4 .int ({ frames := 2109, cells := 1, slots := 6, locals := 45001 } : Room) D dA ad g ι sz [pX a0, iX a1] Q Xq 1 6 := by
  unfold P_X1_night at hF
  refine xg_enter [pX a0, iX a1] (Qc := fun A => va_Qi (GQi g Q) (CB D dA ad A) A) (XC := fun A => XCC D dA ad g A Xq) (by decide +kernel) (Nat.le_of_ble_eq_true rfl) ?_
  intro p e s m args below meth c A ls X hP hl hex
  have hl : LH ad ls 4 [(0, pX a0), (1, iX a1)] := hl
  refine ph_iload_n (n := 1) X hl dX1_night_0 rfl rfl ?_
  refine lv_iconst (v := 0) X.1 X.2.1 dX1_night_1 (by decide) ?_
  refine lv_iconst (v := 3) X.1 X.2.1 dX1_night_2 (by decide) ?_
  refine cg_callSi [iX a1, iX 0, iX 3] X hP (met_X1_within l D dA ad g _ _ hF) (va_cwS 3 X.2.2.2.2.1 (lw_S q919 q920 q98 q921) rfl rfl rfl (by decide +kernel) ⟨Nat.le_of_ble_eq_true rfl, Nat.le_of_ble_eq_true rfl⟩) rfl hl (k8 := 0) (cs0 (k := 0)) (by decide) ⟨(Nat.le_of_ble_eq_true rfl), (Nat.le_of_ble_eq_true rfl)⟩ dX1_night_3 rfl (fun r12 ι13 H locs hF hP => ?_)
  refine xg_callSv [iX r12] X hP hex (met_X1_there l D dA ad g hlt _ _ hF) (va_cwS 1 X.2.2.2.2.1 (lw_S q1556 q1557 q98 q1558) rfl rfl rfl (by decide +kernel) ⟨(Nat.le_of_ble_eq_true rfl), (Nat.le_of_ble_eq_true rfl)⟩) rfl hl (k8 := 0) (cs0 (k := 0)) (by decide) ⟨(Nat.le_of_ble_eq_true rfl), (Nat.le_of_ble_eq_true rfl)⟩ (Nat.le_of_ble_eq_true rfl) (Nat.le_of_ble_eq_true rfl) dX1_night_6 rfl (fun ι16 H locs hF hP => ?_)
  refine ph_aload_n (n := 0) X hl dX1_night_9 rfl rfl ?_
  obtain ⟨hm18, hF⟩ := hF
  refine cg_getr 1 10 X in_X1 hP hm18 q809 dX1_night_10 ?_
  obtain ⟨hm22, hF⟩ := hF
  refine cg_callVv 6 [] X hP hm22 (met_X7_all l D dA ad g _ _ hF) (cwV 0 X.2.2.2.2.1 (lw_V q961 q962 q963 q124 q964) rfl rfl rfl (by decide +kernel) ⟨Nat.le_of_ble_eq_true rfl, Nat.le_of_ble_eq_true rfl⟩) rfl hl (k8 := 0) (cs0 (k := 0)) (by decide) ⟨(Nat.le_of_ble_eq_true rfl), (Nat.le_of_ble_eq_true rfl)⟩ dX1_night_13 rfl (fun ι20 H locs hF hP => ?_)
  refine ph_iload_n (n := 1) X hl dX1_night_16 rfl rfl ?_
  refine lv_iconst (v := 3) X.1 X.2.1 dX1_night_17 (by decide) ?_
  refine lv_icmp_ge (tgt := 58) X.1 X.2.1 dX1_night_18 (by decide) (fun c28 => ?_) (fun c28 => ?_)
  · have hF := hF.1 c28
    refine lv_iconst (v := (-1)) X.1 X.2.1 dX1_night_58 (by decide) ?_
    refine ph_istore_n X hl dX1_night_59 rfl (by decide) rfl (fun ls hl => ?_)
    refine lv_iconst (v := 0) X.1 X.2.1 dX1_night_60 (by decide) ?_
    refine ph_istore_n X hl dX1_night_61 rfl (by decide) rfl (fun ls hl => ?_)
    obtain ⟨n9, hF⟩ := hF
    exact w_X1_night_62 X hlt hex n9 _ _ _ _ _ _ _ hF hP (lh_sub hl [2, 1, 0] rfl)
  · have hF := hF.2 c28
    refine ph_iload_n (n := 1) X hl dX1_night_21 rfl rfl ?_
    refine lv_if_ne (tgt := 35) X.1 X.2.1 dX1_night_22 (by decide) (fun c27 => ?_) (fun c27 => ?_)
    · have hF := hF.1 c27
      refine ph_iload_n (n := 1) X hl dX1_night_35 rfl rfl ?_
      refine lv_iconst (v := 1) X.1 X.2.1 dX1_night_36 (by decide) ?_
      refine lv_icmp_ne (tgt := 50) X.1 X.2.1 dX1_night_37 (by decide) (fun c26 => ?_) (fun c26 => ?_)
      · have hF := hF.1 c26
        refine ph_aload_n (n := 0) X hl dX1_night_50 rfl rfl ?_
        refine cg_getr 1 10 X in_X1 hP hm18 q809 dX1_night_51 ?_
        refine cg_getiN 6 12 X in_X7 hP hm22 q734 dX1_night_54 ?_
        exact xg_iret X hP hF (Nat.le_of_ble_eq_true rfl) (Nat.le_of_ble_eq_true rfl) dX1_night_57
      · have hF := hF.2 c26
        refine ph_aload_n (n := 0) X hl dX1_night_40 rfl rfl ?_
        refine cg_getr 1 10 X in_X1 hP hm18 q809 dX1_night_41 ?_
        refine cg_callVi 6 [] X hP hm22 (met_X7_wokenAll l D dA ad g _ _ hF) (cwV 0 X.2.2.2.2.1 (lw_V q1117 q1118 q1119 q124 q1120) rfl rfl rfl (by decide +kernel) ⟨Nat.le_of_ble_eq_true rfl, Nat.le_of_ble_eq_true rfl⟩) rfl hl (k8 := 0) (cs0 (k := 0)) (by decide) ⟨(Nat.le_of_ble_eq_true rfl), (Nat.le_of_ble_eq_true rfl)⟩ dX1_night_44 rfl (fun r23 ι24 H locs hF hP => ?_)
        refine lv_goto (tgt := 57) X.1 X.2.1 dX1_night_47 (by decide) ?_
        exact xg_iret X hP hF (Nat.le_of_ble_eq_true rfl) (Nat.le_of_ble_eq_true rfl) dX1_night_57
    · have hF := hF.2 c27
      refine ph_aload_n (n := 0) X hl dX1_night_25 rfl rfl ?_
      refine cg_getr 1 10 X in_X1 hP hm18 q809 dX1_night_26 ?_
      refine cg_getiN 6 11 X in_X7 hP hm22 q732 dX1_night_29 ?_
      refine lv_goto (tgt := 57) X.1 X.2.1 dX1_night_32 (by decide) ?_
      exact xg_iret X hP hF (Nat.le_of_ble_eq_true rfl) (Nat.le_of_ble_eq_true rfl) dX1_night_57
def P_X1_woken (g : GT) (Xq : Nat → S → Prop) (a0 : Nat) (a1 : Int32) (a2 : Int32) (ι : S) (Q : Int32 → S → Prop) : Prop := (gK g a0 = 2 ∧ (P_X1_sleeperAt g Xq a0 a1 ι (fun r1 ι2 => (P_X1_within g a2 0 1 ι2 (fun r5 ι6 => (P_X1_there g Xq r5 ι6 (fun ι9 => (gK g (gR g a0 10) = 7 ∧ (P_X7_all g (gR g a0 10) ι9 (fun ι12 => ((¬ a2 = 0 → (gK g (gR g (gR g a0 10) 6) = 100 ∧ (vp_in a1 (gL g (gR g (gR g a0 10) 6)) ∧ (Q (ι12 (gR g (gR g a0 10) 6) a1.toNatClampNeg) ι12)))) ∧ (a2 = 0 → (gK g (gR g (gR g a0 10) 4) = 100 ∧ (vp_in a1 (gL g (gR g (gR g a0 10) 4)) ∧ (Q (ι12 (gR g (gR g a0 10) 4) a1.toNatClampNeg) ι12)))))))))))))))
set_option maxHeartbeats 2000000 in
theorem met_X1_woken (l : Launch) (D : va_G) (dA : Nat → ClassId) (ad : Nat → Nat) (g : GT) (hlt : l.stackTraces = false) (ι : S) (sz : Nat) {a0 : Nat} {a1 : Int32} {a2 : Int32} {Q : Int32 → S → Prop} {Xq : Nat → S → Prop} (hF : P_X1_woken g Xq a0 a1 a2 ι Q) : CEi l yX1_woken cX1_woken 3 .int ({ frames := 2109, cells := 2, slots := 12, locals := 45001 } : Room) D dA ad g ι sz [pX a0, iX a1, iX a2] Q Xq 2 12 := by
  unfold P_X1_woken at hF
  refine xg_enter [pX a0, iX a1, iX a2] (Qc := fun A => va_Qi (GQi g Q) (CB D dA ad A) A) (XC := fun A => XCC D dA ad g A Xq) (by decide +kernel) (Nat.le_of_ble_eq_true rfl) ?_
  intro p e s m args below meth c A ls X hP hl hex
  have hl : LH ad ls 3 [(0, pX a0), (1, iX a1), (2, iX a2)] := hl
  refine ph_aload_n (n := 0) X hl dX1_woken_0 rfl rfl ?_
  refine ph_iload_n (n := 1) X hl dX1_woken_1 rfl rfl ?_
  obtain ⟨hm4, hF⟩ := hF
  refine xg_callVq 1 [iX a1] X hP hex hm4 (met_X1_sleeperAt l D dA ad g hlt _ _ hF) (cwV 1 X.2.2.2.2.1 (lw_V q1581 q1583 qs40 q98 q1584) rfl rfl rfl (by decide +kernel) ⟨(Nat.le_of_ble_eq_true rfl), (Nat.le_of_ble_eq_true rfl)⟩) rfl hl (k8 := 0) (cs0 (k := 0)) (by decide) ⟨(Nat.le_of_ble_eq_true rfl), (Nat.le_of_ble_eq_true rfl)⟩ (Nat.le_of_ble_eq_true rfl) (Nat.le_of_ble_eq_true rfl) dX1_woken_2 rfl (fun r1 ι2 H locs hF hv3 hP => ?_)
  refine ph_pop_r X dX1_woken_5 ?_
  refine ph_iload_n (n := 2) X hl dX1_woken_6 rfl rfl ?_
  refine lv_iconst (v := 0) X.1 X.2.1 dX1_woken_7 (by decide) ?_
  refine lv_iconst (v := 1) X.1 X.2.1 dX1_woken_8 (by decide) ?_
  refine cg_callSi [iX a2, iX 0, iX 1] X hP (met_X1_within l D dA ad g _ _ hF) (va_cwS 3 X.2.2.2.2.1 (lw_S q919 q920 q98 q921) rfl rfl rfl (by decide +kernel) ⟨Nat.le_of_ble_eq_true rfl, Nat.le_of_ble_eq_true rfl⟩) rfl hl (k8 := 0) (cs0 (k := 0)) (by decide) ⟨(Nat.le_of_ble_eq_true rfl), (Nat.le_of_ble_eq_true rfl)⟩ dX1_woken_9 rfl (fun r5 ι6 H locs hF hP => ?_)
  refine xg_callSv [iX r5] X hP hex (met_X1_there l D dA ad g hlt _ _ hF) (va_cwS 1 X.2.2.2.2.1 (lw_S q1556 q1557 q98 q1558) rfl rfl rfl (by decide +kernel) ⟨(Nat.le_of_ble_eq_true rfl), (Nat.le_of_ble_eq_true rfl)⟩) rfl hl (k8 := 0) (cs0 (k := 0)) (by decide) ⟨(Nat.le_of_ble_eq_true rfl), (Nat.le_of_ble_eq_true rfl)⟩ (Nat.le_of_ble_eq_true rfl) (Nat.le_of_ble_eq_true rfl) dX1_woken_12 rfl (fun ι9 H locs hF hP => ?_)
  refine ph_aload_n (n := 0) X hl dX1_woken_15 rfl rfl ?_
  refine cg_getr 1 10 X in_X1 hP hm4 q809 dX1_woken_16 ?_
  obtain ⟨hm14, hF⟩ := hF
  refine cg_callVv 6 [] X hP hm14 (met_X7_all l D dA ad g _ _ hF) (cwV 0 X.2.2.2.2.1 (lw_V q961 q962 q963 q124 q964) rfl rfl rfl (by decide +kernel) ⟨Nat.le_of_ble_eq_true rfl, Nat.le_of_ble_eq_true rfl⟩) rfl hl (k8 := 0) (cs0 (k := 0)) (by decide) ⟨(Nat.le_of_ble_eq_true rfl), (Nat.le_of_ble_eq_true rfl)⟩ dX1_woken_19 rfl (fun ι12 H locs hF hP => ?_)
  refine ph_iload_n (n := 2) X hl dX1_woken_22 rfl rfl ?_
  refine lv_if_ne (tgt := 38) X.1 X.2.1 dX1_woken_23 (by decide) (fun c19 => ?_) (fun c19 => ?_)
  · have hF := hF.1 c19
    refine ph_aload_n (n := 0) X hl dX1_woken_38 rfl rfl ?_
    refine cg_getr 1 10 X in_X1 hP hm4 q809 dX1_woken_39 ?_
    refine cg_getrN 6 6 X in_X7 hP hm14 q726 dX1_woken_42 ?_
    refine ph_iload_n (n := 1) X hl dX1_woken_45 rfl rfl ?_
    obtain ⟨hm15, hF⟩ := hF
    obtain ⟨hr16, hF⟩ := hF
    refine cg_iald X hP hm15 hr16 (k := a1.toNatClampNeg) rfl dX1_woken_46 ?_
    exact xg_iret X hP hF (Nat.le_of_ble_eq_true rfl) (Nat.le_of_ble_eq_true rfl) dX1_woken_47
  · have hF := hF.2 c19
    refine ph_aload_n (n := 0) X hl dX1_woken_26 rfl rfl ?_
    refine cg_getr 1 10 X in_X1 hP hm4 q809 dX1_woken_27 ?_
    refine cg_getrN 6 4 X in_X7 hP hm14 q723 dX1_woken_30 ?_
    refine ph_iload_n (n := 1) X hl dX1_woken_33 rfl rfl ?_
    obtain ⟨hm17, hF⟩ := hF
    obtain ⟨hr18, hF⟩ := hF
    refine cg_iald X hP hm17 hr18 (k := a1.toNatClampNeg) rfl dX1_woken_34 ?_
    refine lv_goto (tgt := 47) X.1 X.2.1 dX1_woken_35 (by decide) ?_
    exact xg_iret X hP hF (Nat.le_of_ble_eq_true rfl) (Nat.le_of_ble_eq_true rfl) dX1_woken_47
def P_X1_lies (g : GT) (Xq : Nat → S → Prop) (a0 : Nat) (a1 : Int32) (a2 : Int32) (a3 : Int32) (ι : S) (Q : Int32 → S → Prop) : Prop := (gK g a0 = 2 ∧ (P_X1_sleeperAt g Xq a0 a1 ι (fun r1 ι2 => (P_X1_within g a3 0 1 ι2 (fun r5 ι6 => (P_X1_there g Xq r5 ι6 (fun ι9 => (gK g (gR g a0 0) = 3 ∧ (P_X1_within g a2 0 (ι9 (gR g a0 0) 2) ι9 (fun r12 ι13 => (P_X1_right g Xq r12 ι13 (fun ι16 => (gK g (gR g a0 10) = 7 ∧ (P_X7_goesTo g (gR g a0 10) a2 ι16 (fun ι19 => ((¬ a3 = 0 → (P_X7_isAwake g (gR g a0 10) a1 ι19 (fun r22 ι23 => ((r22 = 0 → (Q 0 ι23)) ∧ (¬ r22 = 0 → (Q 1 ι23)))))) ∧ (a3 = 0 → (gK g (gR g (gR g a0 10) 2) = 100 ∧ (vp_in a1 (gL g (gR g (gR g a0 10) 2)) ∧ (Q (ι19 (gR g (gR g a0 10) 2) a1.toNatClampNeg) ι19))))))))))))))))))))
set_option maxHeartbeats 2000000 in
theorem met_X1_lies (l : Launch) (D : va_G) (dA : Nat → ClassId) (ad : Nat → Nat) (g : GT) (hlt : l.stackTraces = false) (ι : S) (sz : Nat) {a0 : Nat} {a1 : Int32} {a2 : Int32} {a3 : Int32} {Q : Int32 → S → Prop} {Xq : Nat → S → Prop} (hF : P_X1_lies g Xq a0 a1 a2 a3 ι Q) : CEi l yX1_lies cX1_lies 4 .int ({ frames := 2108, cells := 3, slots := 18, locals := 44981 } : Room) D dA ad g ι sz [pX a0, iX a1, iX a2, iX a3] Q Xq 3 18 := by
  unfold P_X1_lies at hF
  refine xg_enter [pX a0, iX a1, iX a2, iX a3] (Qc := fun A => va_Qi (GQi g Q) (CB D dA ad A) A) (XC := fun A => XCC D dA ad g A Xq) (by decide +kernel) (Nat.le_of_ble_eq_true rfl) ?_
  intro p e s m args below meth c A ls X hP hl hex
  have hl : LH ad ls 4 [(0, pX a0), (1, iX a1), (2, iX a2), (3, iX a3)] := hl
  refine ph_aload_n (n := 0) X hl dX1_lies_0 rfl rfl ?_
  refine ph_iload_n (n := 1) X hl dX1_lies_1 rfl rfl ?_
  obtain ⟨hm4, hF⟩ := hF
  refine xg_callVq 1 [iX a1] X hP hex hm4 (met_X1_sleeperAt l D dA ad g hlt _ _ hF) (cwV 1 X.2.2.2.2.1 (lw_V q1581 q1583 qs40 q98 q1584) rfl rfl rfl (by decide +kernel) ⟨(Nat.le_of_ble_eq_true rfl), (Nat.le_of_ble_eq_true rfl)⟩) rfl hl (k8 := 0) (cs0 (k := 0)) (by decide) ⟨(Nat.le_of_ble_eq_true rfl), (Nat.le_of_ble_eq_true rfl)⟩ (Nat.le_of_ble_eq_true rfl) (Nat.le_of_ble_eq_true rfl) dX1_lies_2 rfl (fun r1 ι2 H locs hF hv3 hP => ?_)
  refine ph_pop_r X dX1_lies_5 ?_
  refine ph_iload_n (n := 3) X hl dX1_lies_6 rfl rfl ?_
  refine lv_iconst (v := 0) X.1 X.2.1 dX1_lies_7 (by decide) ?_
  refine lv_iconst (v := 1) X.1 X.2.1 dX1_lies_8 (by decide) ?_
  refine cg_callSi [iX a3, iX 0, iX 1] X hP (met_X1_within l D dA ad g _ _ hF) (va_cwS 3 X.2.2.2.2.1 (lw_S q919 q920 q98 q921) rfl rfl rfl (by decide +kernel) ⟨Nat.le_of_ble_eq_true rfl, Nat.le_of_ble_eq_true rfl⟩) rfl hl (k8 := 0) (cs0 (k := 0)) (by decide) ⟨(Nat.le_of_ble_eq_true rfl), (Nat.le_of_ble_eq_true rfl)⟩ dX1_lies_9 rfl (fun r5 ι6 H locs hF hP => ?_)
  refine xg_callSv [iX r5] X hP hex (met_X1_there l D dA ad g hlt _ _ hF) (va_cwS 1 X.2.2.2.2.1 (lw_S q1556 q1557 q98 q1558) rfl rfl rfl (by decide +kernel) ⟨(Nat.le_of_ble_eq_true rfl), (Nat.le_of_ble_eq_true rfl)⟩) rfl hl (k8 := 0) (cs0 (k := 0)) (by decide) ⟨(Nat.le_of_ble_eq_true rfl), (Nat.le_of_ble_eq_true rfl)⟩ (Nat.le_of_ble_eq_true rfl) (Nat.le_of_ble_eq_true rfl) dX1_lies_12 rfl (fun ι9 H locs hF hP => ?_)
  refine ph_iload_n (n := 2) X hl dX1_lies_15 rfl rfl ?_
  refine lv_iconst (v := 0) X.1 X.2.1 dX1_lies_16 (by decide) ?_
  refine ph_aload_n (n := 0) X hl dX1_lies_17 rfl rfl ?_
  refine cg_getr 1 0 X in_X1 hP hm4 q799 dX1_lies_18 ?_
  obtain ⟨hm11, hF⟩ := hF
  refine cg_getiN 2 2 X in_X2 hP hm11 q524 dX1_lies_21 ?_
  refine cg_callSi [iX a2, iX 0, iX (ι9 (gR g a0 0) 2)] X hP (met_X1_within l D dA ad g _ _ hF) (va_cwS 3 X.2.2.2.2.1 (lw_S q919 q920 q98 q921) rfl rfl rfl (by decide +kernel) ⟨Nat.le_of_ble_eq_true rfl, Nat.le_of_ble_eq_true rfl⟩) rfl hl (k8 := 0) (cs0 (k := 0)) (by decide) ⟨(Nat.le_of_ble_eq_true rfl), (Nat.le_of_ble_eq_true rfl)⟩ dX1_lies_24 rfl (fun r12 ι13 H locs hF hP => ?_)
  refine xg_callSv [iX r12] X hP hex (met_X1_right l D dA ad g hlt _ _ hF) (va_cwS 1 X.2.2.2.2.1 (lw_S q1161 q1162 q98 q1163) rfl rfl rfl (by decide +kernel) ⟨(Nat.le_of_ble_eq_true rfl), (Nat.le_of_ble_eq_true rfl)⟩) rfl hl (k8 := 0) (cs0 (k := 0)) (by decide) ⟨(Nat.le_of_ble_eq_true rfl), (Nat.le_of_ble_eq_true rfl)⟩ (Nat.le_of_ble_eq_true rfl) (Nat.le_of_ble_eq_true rfl) dX1_lies_27 rfl (fun ι16 H locs hF hP => ?_)
  refine ph_aload_n (n := 0) X hl dX1_lies_30 rfl rfl ?_
  refine cg_getr 1 10 X in_X1 hP hm4 q809 dX1_lies_31 ?_
  refine ph_iload_n (n := 2) X hl dX1_lies_34 rfl rfl ?_
  obtain ⟨hm21, hF⟩ := hF
  refine cg_callVv 6 [iX a2] X hP hm21 (met_X7_goesTo l D dA ad g _ _ hF) (cwV 1 X.2.2.2.2.1 (lw_V q1637 q966 q967 q124 q968) rfl rfl rfl (by decide +kernel) ⟨Nat.le_of_ble_eq_true rfl, Nat.le_of_ble_eq_true rfl⟩) rfl hl (k8 := 0) (cs0 (k := 0)) (by decide) ⟨(Nat.le_of_ble_eq_true rfl), (Nat.le_of_ble_eq_true rfl)⟩ dX1_lies_35 rfl (fun ι19 H locs hF hP => ?_)
  refine ph_iload_n (n := 3) X hl dX1_lies_38 rfl rfl ?_
  refine lv_if_ne (tgt := 54) X.1 X.2.1 dX1_lies_39 (by decide) (fun c28 => ?_) (fun c28 => ?_)
  · have hF := hF.1 c28
    refine ph_aload_n (n := 0) X hl dX1_lies_54 rfl rfl ?_
    refine cg_getr 1 10 X in_X1 hP hm4 q809 dX1_lies_55 ?_
    refine ph_iload_n (n := 1) X hl dX1_lies_58 rfl rfl ?_
    refine cg_callVi 6 [iX a1] X hP hm21 (met_X7_isAwake l D dA ad g _ _ hF) (cwV 1 X.2.2.2.2.1 (lw_V q1638 q1018 q1019 q124 q1020) rfl rfl rfl (by decide +kernel) ⟨Nat.le_of_ble_eq_true rfl, Nat.le_of_ble_eq_true rfl⟩) rfl hl (k8 := 0) (cs0 (k := 0)) (by decide) ⟨(Nat.le_of_ble_eq_true rfl), (Nat.le_of_ble_eq_true rfl)⟩ dX1_lies_59 rfl (fun r22 ι23 H locs hF hP => ?_)
    refine lv_if_eq (tgt := 69) X.1 X.2.1 dX1_lies_62 (by decide) (fun c25 => ?_) (fun c25 => ?_)
    · have hF := hF.1 c25
      refine lv_iconst (v := 0) X.1 X.2.1 dX1_lies_69 (by decide) ?_
      exact xg_iret X hP hF (Nat.le_of_ble_eq_true rfl) (Nat.le_of_ble_eq_true rfl) dX1_lies_70
    · have hF := hF.2 c25
      refine lv_iconst (v := 1) X.1 X.2.1 dX1_lies_65 (by decide) ?_
      refine lv_goto (tgt := 70) X.1 X.2.1 dX1_lies_66 (by decide) ?_
      exact xg_iret X hP hF (Nat.le_of_ble_eq_true rfl) (Nat.le_of_ble_eq_true rfl) dX1_lies_70
  · have hF := hF.2 c28
    refine ph_aload_n (n := 0) X hl dX1_lies_42 rfl rfl ?_
    refine cg_getr 1 10 X in_X1 hP hm4 q809 dX1_lies_43 ?_
    refine cg_getrN 6 2 X in_X7 hP hm21 q720 dX1_lies_46 ?_
    refine ph_iload_n (n := 1) X hl dX1_lies_49 rfl rfl ?_
    obtain ⟨hm26, hF⟩ := hF
    obtain ⟨hr27, hF⟩ := hF
    refine cg_iald X hP hm26 hr27 (k := a1.toNatClampNeg) rfl dX1_lies_50 ?_
    refine lv_goto (tgt := 70) X.1 X.2.1 dX1_lies_51 (by decide) ?_
    exact xg_iret X hP hF (Nat.le_of_ble_eq_true rfl) (Nat.le_of_ble_eq_true rfl) dX1_lies_70
def P_X1_turn_51 (g : GT) (Xq : Nat → S → Prop) (Q : Int32 → S → Prop) (y0 : Int32) (x0 : Nat) (x1 : Int32) (x2 : Int32) (ι : S) : Prop := (P_X1_there g Xq y0 ι (fun ι2 => ((¬ x2 = 0 → ((¬ x2 = 1 → ((¬ x2 = 2 → (gK g x0 = 2 ∧ (gK g (gR g x0 8) = 100 ∧ (vp_in x1 (gL g (gR g x0 8)) ∧ (Q (ι2 (gR g x0 8) x1.toNatClampNeg) ι2))))) ∧ (x2 = 2 → (gK g x0 = 2 ∧ (gK g (gR g x0 7) = 100 ∧ (vp_in x1 (gL g (gR g x0 7)) ∧ (Q (ι2 (gR g x0 7) x1.toNatClampNeg) ι2))))))) ∧ (x2 = 1 → (gK g x0 = 2 ∧ (gK g (gR g x0 6) = 100 ∧ (vp_in x1 (gL g (gR g x0 6)) ∧ (Q (ι2 (gR g x0 6) x1.toNatClampNeg) ι2))))))) ∧ (x2 = 0 → (gK g x0 = 2 ∧ (gK g (gR g x0 5) = 100 ∧ (vp_in x1 (gL g (gR g x0 5)) ∧ (Q (ι2 (gR g x0 5) x1.toNatClampNeg) ι2))))))))
def P_X1_turn_25 (g : GT) (Xq : Nat → S → Prop) (Q : Int32 → S → Prop) (y0 : Int32) (x0 : Nat) (x1 : Int32) (x2 : Int32) (ι : S) : Prop := (P_X1_there g Xq y0 ι (fun ι20 => (gK g x0 = 2 ∧ (gK g (gR g x0 10) = 7 ∧ (P_X7_all g (gR g x0 10) ι20 (fun ι24 => (((ι24 (gR g x0 10) 11) ≤ x1 → (P_X1_turn_51 g Xq Q 0 x0 x1 x2 ι24)) ∧ (¬ (ι24 (gR g x0 10) 11) ≤ x1 → (P_X1_turn_51 g Xq Q 1 x0 x1 x2 ι24)))))))))
def P_X1_turn_24 (g : GT) (Xq : Nat → S → Prop) (Q : Int32 → S → Prop) (x0 : Nat) (x1 : Int32) (x2 : Int32) (ι : S) : Prop := (P_X1_turn_25 g Xq Q 0 x0 x1 x2 ι)
def P_X1_turn (g : GT) (Xq : Nat → S → Prop) (a0 : Nat) (a1 : Int32) (a2 : Int32) (ι : S) (Q : Int32 → S → Prop) : Prop := ((a1 < 0 → (P_X1_turn_24 g Xq Q a0 a1 a2 ι)) ∧ (¬ a1 < 0 → ((1200 ≤ a1 → (P_X1_turn_24 g Xq Q a0 a1 a2 ι)) ∧ (¬ 1200 ≤ a1 → (P_X1_within g a2 0 3 ι (fun r28 ι29 => ((r28 = 0 → (P_X1_turn_24 g Xq Q a0 a1 a2 ι29)) ∧ (¬ r28 = 0 → (P_X1_turn_25 g Xq Q 1 a0 a1 a2 ι29)))))))))
set_option maxHeartbeats 2000000 in
theorem w_X1_turn_51 (X : CX p s m args c meth cX1_turn 3 (some .int) RX1 D dA ad A) (hlt : l.stackTraces = false) (hex : ∀ x ∈ c.exceptionTable.toList, False) {Xq : Nat → S → Prop} {Q : Int32 → S → Prop} : ∀ (y0 : Int32) (x0 : Nat) (x1 : Int32) (x2 : Int32) (ι : S) (H : Heap) (locs : List Loc) (ls : Array Slot), P_X1_turn_51 g Xq Q y0 x0 x1 x2 ι → PW D dA A s.heap ad (HS g ι) H locs → LH ad ls 3 [(0, pX x0), (1, iX x1), (2, iX x2)] → WEi p l e ({ frames := 2109, cells := 2, slots := 12, locals := 45001 } : Room) s m args below meth c D dA ad A g Q Xq 2 12 H locs 1 6 (F0 m 51 ls [.int y0]) := by
  intro y0 x0 x1 x2 ι H locs ls hF hP hl
  unfold P_X1_turn_51 at hF
  refine xg_callSv [iX y0] X hP hex (met_X1_there l D dA ad g hlt _ _ hF) (va_cwS 1 X.2.2.2.2.1 (lw_S q1556 q1557 q98 q1558) rfl rfl rfl (by decide +kernel) ⟨(Nat.le_of_ble_eq_true rfl), (Nat.le_of_ble_eq_true rfl)⟩) rfl hl (k8 := 0) (cs0 (k := 0)) (by decide) ⟨(Nat.le_of_ble_eq_true rfl), (Nat.le_of_ble_eq_true rfl)⟩ (Nat.le_of_ble_eq_true rfl) (Nat.le_of_ble_eq_true rfl) dX1_turn_51 rfl (fun ι2 H locs hF hP => ?_)
  refine ph_iload_n (n := 2) X hl dX1_turn_54 rfl rfl ?_
  refine lv_if_ne (tgt := 67) X.1 X.2.1 dX1_turn_55 (by decide) (fun c18 => ?_) (fun c18 => ?_)
  · have hF := hF.1 c18
    refine ph_iload_n (n := 2) X hl dX1_turn_67 rfl rfl ?_
    refine lv_iconst (v := 1) X.1 X.2.1 dX1_turn_68 (by decide) ?_
    refine lv_icmp_ne (tgt := 81) X.1 X.2.1 dX1_turn_69 (by decide) (fun c14 => ?_) (fun c14 => ?_)
    · have hF := hF.1 c14
      refine ph_iload_n (n := 2) X hl dX1_turn_81 rfl rfl ?_
      refine lv_iconst (v := 2) X.1 X.2.1 dX1_turn_82 (by decide) ?_
      refine lv_icmp_ne (tgt := 95) X.1 X.2.1 dX1_turn_83 (by decide) (fun c10 => ?_) (fun c10 => ?_)
      · have hF := hF.1 c10
        refine ph_aload_n (n := 0) X hl dX1_turn_95 rfl rfl ?_
        obtain ⟨hm4, hF⟩ := hF
        refine cg_getr 1 8 X in_X1 hP hm4 q807 dX1_turn_96 ?_
        refine ph_iload_n (n := 1) X hl dX1_turn_99 rfl rfl ?_
        obtain ⟨hm5, hF⟩ := hF
        obtain ⟨hr6, hF⟩ := hF
        refine cg_iald X hP hm5 hr6 (k := x1.toNatClampNeg) rfl dX1_turn_100 ?_
        exact xg_iret X hP hF (Nat.le_of_ble_eq_true rfl) (Nat.le_of_ble_eq_true rfl) dX1_turn_101
      · have hF := hF.2 c10
        refine ph_aload_n (n := 0) X hl dX1_turn_86 rfl rfl ?_
        obtain ⟨hm7, hF⟩ := hF
        refine cg_getr 1 7 X in_X1 hP hm7 q806 dX1_turn_87 ?_
        refine ph_iload_n (n := 1) X hl dX1_turn_90 rfl rfl ?_
        obtain ⟨hm8, hF⟩ := hF
        obtain ⟨hr9, hF⟩ := hF
        refine cg_iald X hP hm8 hr9 (k := x1.toNatClampNeg) rfl dX1_turn_91 ?_
        refine lv_goto (tgt := 101) X.1 X.2.1 dX1_turn_92 (by decide) ?_
        exact xg_iret X hP hF (Nat.le_of_ble_eq_true rfl) (Nat.le_of_ble_eq_true rfl) dX1_turn_101
    · have hF := hF.2 c14
      refine ph_aload_n (n := 0) X hl dX1_turn_72 rfl rfl ?_
      obtain ⟨hm11, hF⟩ := hF
      refine cg_getr 1 6 X in_X1 hP hm11 q805 dX1_turn_73 ?_
      refine ph_iload_n (n := 1) X hl dX1_turn_76 rfl rfl ?_
      obtain ⟨hm12, hF⟩ := hF
      obtain ⟨hr13, hF⟩ := hF
      refine cg_iald X hP hm12 hr13 (k := x1.toNatClampNeg) rfl dX1_turn_77 ?_
      refine lv_goto (tgt := 101) X.1 X.2.1 dX1_turn_78 (by decide) ?_
      exact xg_iret X hP hF (Nat.le_of_ble_eq_true rfl) (Nat.le_of_ble_eq_true rfl) dX1_turn_101
  · have hF := hF.2 c18
    refine ph_aload_n (n := 0) X hl dX1_turn_58 rfl rfl ?_
    obtain ⟨hm15, hF⟩ := hF
    refine cg_getr 1 5 X in_X1 hP hm15 q804 dX1_turn_59 ?_
    refine ph_iload_n (n := 1) X hl dX1_turn_62 rfl rfl ?_
    obtain ⟨hm16, hF⟩ := hF
    obtain ⟨hr17, hF⟩ := hF
    refine cg_iald X hP hm16 hr17 (k := x1.toNatClampNeg) rfl dX1_turn_63 ?_
    refine lv_goto (tgt := 101) X.1 X.2.1 dX1_turn_64 (by decide) ?_
    exact xg_iret X hP hF (Nat.le_of_ble_eq_true rfl) (Nat.le_of_ble_eq_true rfl) dX1_turn_101
set_option maxHeartbeats 2000000 in
theorem w_X1_turn_25 (X : CX p s m args c meth cX1_turn 3 (some .int) RX1 D dA ad A) (hlt : l.stackTraces = false) (hex : ∀ x ∈ c.exceptionTable.toList, False) {Xq : Nat → S → Prop} {Q : Int32 → S → Prop} : ∀ (y0 : Int32) (x0 : Nat) (x1 : Int32) (x2 : Int32) (ι : S) (H : Heap) (locs : List Loc) (ls : Array Slot), P_X1_turn_25 g Xq Q y0 x0 x1 x2 ι → PW D dA A s.heap ad (HS g ι) H locs → LH ad ls 3 [(0, pX x0), (1, iX x1), (2, iX x2)] → WEi p l e ({ frames := 2109, cells := 2, slots := 12, locals := 45001 } : Room) s m args below meth c D dA ad A g Q Xq 2 12 H locs 0 0 (F0 m 25 ls [.int y0]) := by
  intro y0 x0 x1 x2 ι H locs ls hF hP hl
  unfold P_X1_turn_25 at hF
  refine xg_callSv [iX y0] X hP hex (met_X1_there l D dA ad g hlt _ _ hF) (va_cwS 1 X.2.2.2.2.1 (lw_S q1556 q1557 q98 q1558) rfl rfl rfl (by decide +kernel) ⟨(Nat.le_of_ble_eq_true rfl), (Nat.le_of_ble_eq_true rfl)⟩) rfl hl (k8 := 0) (cs0 (k := 0)) (by decide) ⟨(Nat.le_of_ble_eq_true rfl), (Nat.le_of_ble_eq_true rfl)⟩ (Nat.le_of_ble_eq_true rfl) (Nat.le_of_ble_eq_true rfl) dX1_turn_25 rfl (fun ι20 H locs hF hP => ?_)
  refine ph_aload_n (n := 0) X hl dX1_turn_28 rfl rfl ?_
  obtain ⟨hm22, hF⟩ := hF
  refine cg_getr 1 10 X in_X1 hP hm22 q809 dX1_turn_29 ?_
  obtain ⟨hm26, hF⟩ := hF
  refine cg_callVv 6 [] X hP hm26 (met_X7_all l D dA ad g _ _ hF) (cwV 0 X.2.2.2.2.1 (lw_V q961 q962 q963 q124 q964) rfl rfl rfl (by decide +kernel) ⟨Nat.le_of_ble_eq_true rfl, Nat.le_of_ble_eq_true rfl⟩) rfl hl (k8 := 0) (cs0 (k := 0)) (by decide) ⟨(Nat.le_of_ble_eq_true rfl), (Nat.le_of_ble_eq_true rfl)⟩ dX1_turn_32 rfl (fun ι24 H locs hF hP => ?_)
  refine ph_iload_n (n := 1) X hl dX1_turn_35 rfl rfl ?_
  refine ph_aload_n (n := 0) X hl dX1_turn_36 rfl rfl ?_
  refine cg_getr 1 10 X in_X1 hP hm22 q809 dX1_turn_37 ?_
  refine cg_getiN 6 11 X in_X7 hP hm26 q732 dX1_turn_40 ?_
  refine lv_icmp_ge (tgt := 50) X.1 X.2.1 dX1_turn_43 (by decide) (fun c27 => ?_) (fun c27 => ?_)
  · have hF := hF.1 c27
    refine lv_iconst (v := 0) X.1 X.2.1 dX1_turn_50 (by decide) ?_
    exact w_X1_turn_51 X hlt hex _ _ _ _ _ _ _ _ hF hP hl
  · have hF := hF.2 c27
    refine lv_iconst (v := 1) X.1 X.2.1 dX1_turn_46 (by decide) ?_
    refine lv_goto (tgt := 51) X.1 X.2.1 dX1_turn_47 (by decide) ?_
    exact w_X1_turn_51 X hlt hex _ _ _ _ _ _ _ _ hF hP hl
set_option maxHeartbeats 2000000 in
theorem w_X1_turn_24 (X : CX p s m args c meth cX1_turn 3 (some .int) RX1 D dA ad A) (hlt : l.stackTraces = false) (hex : ∀ x ∈ c.exceptionTable.toList, False) {Xq : Nat → S → Prop} {Q : Int32 → S → Prop} : ∀ (x0 : Nat) (x1 : Int32) (x2 : Int32) (ι : S) (H : Heap) (locs : List Loc) (ls : Array Slot), P_X1_turn_24 g Xq Q x0 x1 x2 ι → PW D dA A s.heap ad (HS g ι) H locs → LH ad ls 3 [(0, pX x0), (1, iX x1), (2, iX x2)] → WEi p l e ({ frames := 2109, cells := 2, slots := 12, locals := 45001 } : Room) s m args below meth c D dA ad A g Q Xq 2 12 H locs 0 0 (F0 m 24 ls []) := by
  intro x0 x1 x2 ι H locs ls hF hP hl
  unfold P_X1_turn_24 at hF
  refine lv_iconst (v := 0) X.1 X.2.1 dX1_turn_24 (by decide) ?_
  exact w_X1_turn_25 X hlt hex _ _ _ _ _ _ _ _ hF hP hl
set_option maxHeartbeats 2000000 in
theorem met_X1_turn (l : Launch) (D : va_G) (dA : Nat → ClassId) (ad : Nat → Nat) (g : GT) (hlt : l.stackTraces = false) (ι : S) (sz : Nat) {a0 : Nat} {a1 : Int32} {a2 : Int32} {Q : Int32 → S → Prop} {Xq : Nat → S → Prop} (hF : P_X1_turn g Xq a0 a1 a2 ι Q) : CEi l yX1_turn cX1_turn 3 .int ({ frames := 2109, cells := 2, slots := 12, locals := 45001 } : Room) D dA ad g ι sz [pX a0, iX a1, iX a2] Q Xq 2 12 := by
  unfold P_X1_turn at hF
  refine xg_enter [pX a0, iX a1, iX a2] (Qc := fun A => va_Qi (GQi g Q) (CB D dA ad A) A) (XC := fun A => XCC D dA ad g A Xq) (by decide +kernel) (Nat.le_of_ble_eq_true rfl) ?_
  intro p e s m args below meth c A ls X hP hl hex
  have hl : LH ad ls 3 [(0, pX a0), (1, iX a1), (2, iX a2)] := hl
  refine ph_iload_n (n := 1) X hl dX1_turn_0 rfl rfl ?_
  refine lv_if_lt (tgt := 24) X.1 X.2.1 dX1_turn_1 (by decide) (fun c33 => ?_) (fun c33 => ?_)
  · have hF := hF.1 c33
    exact w_X1_turn_24 X hlt hex _ _ _ _ _ _ _ hF hP hl
  · have hF := hF.2 c33
    refine ph_iload_n (n := 1) X hl dX1_turn_4 rfl rfl ?_
    refine lv_sipush (v := 1200) X.1 X.2.1 dX1_turn_5 (by decide) ?_
    refine lv_icmp_ge (tgt := 24) X.1 X.2.1 dX1_turn_8 (by decide) (fun c32 => ?_) (fun c32 => ?_)
    · have hF := hF.1 c32
      exact w_X1_turn_24 X hlt hex _ _ _ _ _ _ _ hF hP hl
    · have hF := hF.2 c32
      refine ph_iload_n (n := 2) X hl dX1_turn_11 rfl rfl ?_
      refine lv_iconst (v := 0) X.1 X.2.1 dX1_turn_12 (by decide) ?_
      refine lv_iconst (v := 3) X.1 X.2.1 dX1_turn_13 (by decide) ?_
      refine cg_callSi [iX a2, iX 0, iX 3] X hP (met_X1_within l D dA ad g _ _ hF) (va_cwS 3 X.2.2.2.2.1 (lw_S q919 q920 q98 q921) rfl rfl rfl (by decide +kernel) ⟨Nat.le_of_ble_eq_true rfl, Nat.le_of_ble_eq_true rfl⟩) rfl hl (k8 := 0) (cs0 (k := 0)) (by decide) ⟨(Nat.le_of_ble_eq_true rfl), (Nat.le_of_ble_eq_true rfl)⟩ dX1_turn_14 rfl (fun r28 ι29 H locs hF hP => ?_)
      refine lv_if_eq (tgt := 24) X.1 X.2.1 dX1_turn_17 (by decide) (fun c31 => ?_) (fun c31 => ?_)
      · have hF := hF.1 c31
        exact w_X1_turn_24 X hlt hex _ _ _ _ _ _ _ hF hP hl
      · have hF := hF.2 c31
        refine lv_iconst (v := 1) X.1 X.2.1 dX1_turn_20 (by decide) ?_
        refine lv_goto (tgt := 25) X.1 X.2.1 dX1_turn_21 (by decide) ?_
        exact w_X1_turn_25 X hlt hex _ _ _ _ _ _ _ _ hF hP hl
def P_X1_kept (g : GT) (Xq : Nat → S → Prop) (a0 : Nat) (a1 : Int32) (ι : S) (Q : Int32 → S → Prop) : Prop := (gK g a0 = 2 ∧ (((ι a0 18) = 0 → (P_X1_there g Xq 0 ι (fun ι3 => (gK g (gR g a0 17) = 100 ∧ (vp_in a1 (gL g (gR g a0 17)) ∧ (Q (ι3 (gR g a0 17) a1.toNatClampNeg) ι3)))))) ∧ (¬ (ι a0 18) = 0 → (P_X1_isPlace g a0 a1 ι (fun r7 ι8 => ((r7 = 0 → (P_X1_there g Xq 0 ι8 (fun ι11 => (gK g (gR g a0 17) = 100 ∧ (vp_in a1 (gL g (gR g a0 17)) ∧ (Q (ι11 (gR g a0 17) a1.toNatClampNeg) ι11)))))) ∧ (¬ r7 = 0 → (P_X1_there g Xq 1 ι8 (fun ι16 => (gK g (gR g a0 17) = 100 ∧ (vp_in a1 (gL g (gR g a0 17)) ∧ (Q (ι16 (gR g a0 17) a1.toNatClampNeg) ι16))))))))))))
set_option maxHeartbeats 2000000 in
theorem met_X1_kept (l : Launch) (D : va_G) (dA : Nat → ClassId) (ad : Nat → Nat) (g : GT) (hlt : l.stackTraces = false) (ι : S) (sz : Nat) {a0 : Nat} {a1 : Int32} {Q : Int32 → S → Prop} {Xq : Nat → S → Prop} (hF : P_X1_kept g Xq a0 a1 ι Q) : CEi l yX1_kept cX1_kept 2 .int ({ frames := 7, cells := 1, slots := 6, locals := 120 } : Room) D dA ad g ι sz [pX a0, iX a1] Q Xq 1 6 := by
  unfold P_X1_kept at hF
  refine xg_enter [pX a0, iX a1] (Qc := fun A => va_Qi (GQi g Q) (CB D dA ad A) A) (XC := fun A => XCC D dA ad g A Xq) (by decide +kernel) (Nat.le_of_ble_eq_true rfl) ?_
  intro p e s m args below meth c A ls X hP hl hex
  have hl : LH ad ls 2 [(0, pX a0), (1, iX a1)] := hl
  refine ph_aload_n (n := 0) X hl dX1_kept_0 rfl rfl ?_
  obtain ⟨hm1, hF⟩ := hF
  refine cg_geti 1 18 X in_X1 hP hm1 q817 dX1_kept_1 ?_
  refine lv_if_eq (tgt := 19) X.1 X.2.1 dX1_kept_4 (by decide) (fun c21 => ?_) (fun c21 => ?_)
  · have hF := hF.1 c21
    refine lv_iconst (v := 0) X.1 X.2.1 dX1_kept_19 (by decide) ?_
    refine xg_callSv [iX 0] X hP hex (met_X1_there l D dA ad g hlt _ _ hF) (va_cwS 1 X.2.2.2.2.1 (lw_S q1556 q1557 q98 q1558) rfl rfl rfl (by decide +kernel) ⟨(Nat.le_of_ble_eq_true rfl), (Nat.le_of_ble_eq_true rfl)⟩) rfl hl (k8 := 0) (cs0 (k := 0)) (by decide) ⟨(Nat.le_of_ble_eq_true rfl), (Nat.le_of_ble_eq_true rfl)⟩ (Nat.le_of_ble_eq_true rfl) (Nat.le_of_ble_eq_true rfl) dX1_kept_20 rfl (fun ι3 H locs hF hP => ?_)
    refine ph_aload_n (n := 0) X hl dX1_kept_23 rfl rfl ?_
    refine cg_getr 1 17 X in_X1 hP hm1 q816 dX1_kept_24 ?_
    refine ph_iload_n (n := 1) X hl dX1_kept_27 rfl rfl ?_
    obtain ⟨hm5, hF⟩ := hF
    obtain ⟨hr6, hF⟩ := hF
    refine cg_iald X hP hm5 hr6 (k := a1.toNatClampNeg) rfl dX1_kept_28 ?_
    exact xg_iret X hP hF (Nat.le_of_ble_eq_true rfl) (Nat.le_of_ble_eq_true rfl) dX1_kept_29
  · have hF := hF.2 c21
    refine ph_aload_n (n := 0) X hl dX1_kept_7 rfl rfl ?_
    refine ph_iload_n (n := 1) X hl dX1_kept_8 rfl rfl ?_
    refine cg_callVi 1 [iX a1] X hP hm1 (met_X1_isPlace l D dA ad g _ _ hF) (cwV 1 X.2.2.2.2.1 (lw_V q879 q881 qs5 q98 q882) rfl rfl rfl (by decide +kernel) ⟨Nat.le_of_ble_eq_true rfl, Nat.le_of_ble_eq_true rfl⟩) rfl hl (k8 := 0) (cs0 (k := 0)) (by decide) ⟨(Nat.le_of_ble_eq_true rfl), (Nat.le_of_ble_eq_true rfl)⟩ dX1_kept_9 rfl (fun r7 ι8 H locs hF hP => ?_)
    refine lv_if_eq (tgt := 19) X.1 X.2.1 dX1_kept_12 (by decide) (fun c20 => ?_) (fun c20 => ?_)
    · have hF := hF.1 c20
      refine lv_iconst (v := 0) X.1 X.2.1 dX1_kept_19 (by decide) ?_
      refine xg_callSv [iX 0] X hP hex (met_X1_there l D dA ad g hlt _ _ hF) (va_cwS 1 X.2.2.2.2.1 (lw_S q1556 q1557 q98 q1558) rfl rfl rfl (by decide +kernel) ⟨(Nat.le_of_ble_eq_true rfl), (Nat.le_of_ble_eq_true rfl)⟩) rfl hl (k8 := 0) (cs0 (k := 0)) (by decide) ⟨(Nat.le_of_ble_eq_true rfl), (Nat.le_of_ble_eq_true rfl)⟩ (Nat.le_of_ble_eq_true rfl) (Nat.le_of_ble_eq_true rfl) dX1_kept_20 rfl (fun ι11 H locs hF hP => ?_)
      refine ph_aload_n (n := 0) X hl dX1_kept_23 rfl rfl ?_
      refine cg_getr 1 17 X in_X1 hP hm1 q816 dX1_kept_24 ?_
      refine ph_iload_n (n := 1) X hl dX1_kept_27 rfl rfl ?_
      obtain ⟨hm13, hF⟩ := hF
      obtain ⟨hr14, hF⟩ := hF
      refine cg_iald X hP hm13 hr14 (k := a1.toNatClampNeg) rfl dX1_kept_28 ?_
      exact xg_iret X hP hF (Nat.le_of_ble_eq_true rfl) (Nat.le_of_ble_eq_true rfl) dX1_kept_29
    · have hF := hF.2 c20
      refine lv_iconst (v := 1) X.1 X.2.1 dX1_kept_15 (by decide) ?_
      refine lv_goto (tgt := 20) X.1 X.2.1 dX1_kept_16 (by decide) ?_
      refine xg_callSv [iX 1] X hP hex (met_X1_there l D dA ad g hlt _ _ hF) (va_cwS 1 X.2.2.2.2.1 (lw_S q1556 q1557 q98 q1558) rfl rfl rfl (by decide +kernel) ⟨(Nat.le_of_ble_eq_true rfl), (Nat.le_of_ble_eq_true rfl)⟩) rfl hl (k8 := 0) (cs0 (k := 0)) (by decide) ⟨(Nat.le_of_ble_eq_true rfl), (Nat.le_of_ble_eq_true rfl)⟩ (Nat.le_of_ble_eq_true rfl) (Nat.le_of_ble_eq_true rfl) dX1_kept_20 rfl (fun ι16 H locs hF hP => ?_)
      refine ph_aload_n (n := 0) X hl dX1_kept_23 rfl rfl ?_
      refine cg_getr 1 17 X in_X1 hP hm1 q816 dX1_kept_24 ?_
      refine ph_iload_n (n := 1) X hl dX1_kept_27 rfl rfl ?_
      obtain ⟨hm18, hF⟩ := hF
      obtain ⟨hr19, hF⟩ := hF
      refine cg_iald X hP hm18 hr19 (k := a1.toNatClampNeg) rfl dX1_kept_28 ?_
      exact xg_iret X hP hF (Nat.le_of_ble_eq_true rfl) (Nat.le_of_ble_eq_true rfl) dX1_kept_29
def P_X1_every_73 (g : GT) (Xq : Nat → S → Prop) (Q : Int32 → S → Prop) (k42 : Nat → Int32 → Int32 → Int32 → Int32 → Int32 → S → Prop) (y0 : Nat) (y1 : Int32) (x0 : Nat) (x1 : Int32) (x2 : Int32) (x4 : Int32) (x5 : Int32) (x6 : Int32) (ι : S) : Prop := (gK g y0 = 6 ∧ (∀ ι2, ι2 = up2 ι y0 4 y1 → (gK g x0 = 2 ∧ (P_X1_tries g x0 ι2 (fun r3 ι4 => ((x4 = (-1) → (k42 x0 x1 x2 x6 r3 (x6 + 1) ι4)) ∧ (¬ x4 = (-1) → ((r3 < x5 → (k42 x0 x1 x2 x6 r3 (x6 + 1) ι4)) ∧ (¬ r3 < x5 → (k42 x0 x1 x2 x4 x5 (x6 + 1) ι4))))))))))
def P_X1_every_42 (g : GT) (Xq : Nat → S → Prop) (Q : Int32 → S → Prop) : Nat → Nat → Int32 → Int32 → Int32 → Int32 → Int32 → S → Prop
  | 0, _, _, _, _, _, _, _ => False
  | n + 1, x0, x1, x2, x4, x5, x6, ι => ((240 < x6 → ((¬ x2 = 0 → (Q x5 ι)) ∧ (x2 = 0 → (Q x4 ι)))) ∧ (¬ 240 < x6 → (gK g x0 = 2 ∧ (gK g (gR g x0 4) = 6 ∧ (∀ ι12, ι12 = up2 ι (gR g x0 4) 5 x6 → ((¬ x6 = 0 → (P_X1_every_73 g Xq Q (fun z0 z1 z2 z3 z4 z5 z6 => P_X1_every_42 g Xq Q  n z0 z1 z2 z3 z4 z5 z6) (gR g x0 4) x1 x0 x1 x2 x4 x5 x6 ι12)) ∧ (x6 = 0 → (P_X1_every_73 g Xq Q (fun z0 z1 z2 z3 z4 z5 z6 => P_X1_every_42 g Xq Q  n z0 z1 z2 z3 z4 z5 z6) (gR g x0 4) (-1) x0 x1 x2 x4 x5 x6 ι12))))))))
def P_X1_every (g : GT) (Xq : Nat → S → Prop) (a0 : Nat) (a1 : Int32) (a2 : Int32) (ι : S) (Q : Int32 → S → Prop) : Prop := (gK g a0 = 2 ∧ (P_X1_sleeperAt g Xq a0 a1 ι (fun r15 ι16 => (P_X1_within g a2 0 1 ι16 (fun r19 ι20 => (P_X1_there g Xq r19 ι20 (fun ι23 => (isSl (gK g r15) ∧ (P_X1_right g Xq (slTurned (gK g r15)) ι23 (fun ι30 => (gK g (gR g a0 4) = 6 ∧ (P_X6_like g (gR g a0 4) (gR g a0 3) ι30 (fun ι33 => (∃ n9, P_X1_every_42 g Xq Q n9 a0 a1 a2 (-1) 0 0 ι33))))))))))))))
set_option maxHeartbeats 2000000 in
theorem w_X1_every_73 (X : CX p s m args c meth cX1_every 8 (some .int) RX1 D dA ad A) (hlt : l.stackTraces = false) (hex : ∀ x ∈ c.exceptionTable.toList, False) {Xq : Nat → S → Prop} {Q : Int32 → S → Prop} {k42 : Nat → Int32 → Int32 → Int32 → Int32 → Int32 → S → Prop} (hk42 : ∀ (x0 : Nat) (x1 : Int32) (x2 : Int32) (x4 : Int32) (x5 : Int32) (x6 : Int32) (ι : S) (H : Heap) (locs : List Loc) (ls : Array Slot), k42 x0 x1 x2 x4 x5 x6 ι → PW D dA A s.heap ad (HS g ι) H locs → LH ad ls 8 [(0, pX x0), (1, iX x1), (2, iX x2), (4, iX x4), (5, iX x5), (6, iX x6)] → WEi p l e ({ frames := 2110, cells := 3, slots := 18, locals := 45021 } : Room) s m args below meth c D dA ad A g Q Xq 3 18 H locs 3 18 (F0 m 42 ls [])) : ∀ (y0 : Nat) (y1 : Int32) (x0 : Nat) (x1 : Int32) (x2 : Int32) (x4 : Int32) (x5 : Int32) (x6 : Int32) (ι : S) (H : Heap) (locs : List Loc) (ls : Array Slot), P_X1_every_73 g Xq Q k42 y0 y1 x0 x1 x2 x4 x5 x6 ι → PW D dA A s.heap ad (HS g ι) H locs → LH ad ls 8 [(0, pX x0), (1, iX x1), (2, iX x2), (4, iX x4), (5, iX x5), (6, iX x6)] → WEi p l e ({ frames := 2110, cells := 3, slots := 18, locals := 45021 } : Room) s m args below meth c D dA ad A g Q Xq 3 18 H locs 3 18 (F0 m 73 ls [.int y1, rv ad y0]) := by
  intro y0 y1 x0 x1 x2 x4 x5 x6 ι H locs ls hF hP hl
  unfold P_X1_every_73 at hF
  obtain ⟨hm1, hF⟩ := hF
  refine cg_putiN 5 4 X in_X6 tyX6 tyX6_ok nmX6 hP hm1 q593 dX1_every_73 hF (fun H locs ι2 hP hF => ?_)
  refine ph_aload_n (n := 0) X hl dX1_every_76 rfl rfl ?_
  obtain ⟨hm6, hF⟩ := hF
  refine cg_callVi 1 [] X hP hm6 (met_X1_tries l D dA ad g _ _ hF) (cwV 0 X.2.2.2.2.1 (lw_V q957 q959 qs13 q98 q960) rfl rfl rfl (by decide +kernel) ⟨Nat.le_of_ble_eq_true rfl, Nat.le_of_ble_eq_true rfl⟩) rfl hl (k8 := 0) (cs0 (k := 0)) (by decide) ⟨(Nat.le_of_ble_eq_true rfl), (Nat.le_of_ble_eq_true rfl)⟩ dX1_every_77 rfl (fun r3 ι4 H locs hF hP => ?_)
  refine ph_istore X hl dX1_every_80 (by decide) rfl (fun ls hl => ?_)
  refine ph_iload (n := 4) X hl dX1_every_82 rfl ?_
  refine lv_iconst (v := (-1)) X.1 X.2.1 dX1_every_84 (by decide) ?_
  refine lv_icmp_eq (tgt := 98) X.1 X.2.1 dX1_every_85 (by decide) (fun c8 => ?_) (fun c8 => ?_)
  · have hF := hF.1 c8
    refine ph_iload (n := 6) X hl dX1_every_98 rfl ?_
    refine ph_istore X hl dX1_every_100 (by decide) rfl (fun ls hl => ?_)
    refine ph_iload (n := 1) X hl dX1_every_102 rfl ?_
    refine ph_istore X hl dX1_every_104 (by decide) rfl (fun ls hl => ?_)
    refine ph_iinc (v := x6 + 1) (k := 6) X hl dX1_every_106 rfl rfl (by decide) rfl (fun ls hl => ?_)
    refine lv_goto (tgt := 42) X.1 X.2.1 dX1_every_109 (by decide) ?_
    exact hk42 _ _ _ _ _ _ _ _ _ _ hF hP (lh_sub hl [4, 5, 6, 2, 1, 0] rfl)
  · have hF := hF.2 c8
    refine ph_iload (n := 0) X hl dX1_every_88 rfl ?_
    refine ph_iload (n := 5) X hl dX1_every_90 rfl ?_
    refine lv_icmp_lt (tgt := 98) X.1 X.2.1 dX1_every_92 (by decide) (fun c7 => ?_) (fun c7 => ?_)
    · have hF := hF.1 c7
      refine ph_iload (n := 6) X hl dX1_every_98 rfl ?_
      refine ph_istore X hl dX1_every_100 (by decide) rfl (fun ls hl => ?_)
      refine ph_iload (n := 1) X hl dX1_every_102 rfl ?_
      refine ph_istore X hl dX1_every_104 (by decide) rfl (fun ls hl => ?_)
      refine ph_iinc (v := x6 + 1) (k := 6) X hl dX1_every_106 rfl rfl (by decide) rfl (fun ls hl => ?_)
      refine lv_goto (tgt := 42) X.1 X.2.1 dX1_every_109 (by decide) ?_
      exact hk42 _ _ _ _ _ _ _ _ _ _ hF hP (lh_sub hl [4, 5, 6, 2, 1, 0] rfl)
    · have hF := hF.2 c7
      refine lv_goto (tgt := 106) X.1 X.2.1 dX1_every_95 (by decide) ?_
      refine ph_iinc (v := x6 + 1) (k := 6) X hl dX1_every_106 rfl rfl (by decide) rfl (fun ls hl => ?_)
      refine lv_goto (tgt := 42) X.1 X.2.1 dX1_every_109 (by decide) ?_
      exact hk42 _ _ _ _ _ _ _ _ _ _ hF hP (lh_sub hl [2, 3, 4, 5, 6, 0] rfl)
set_option maxHeartbeats 2000000 in
theorem w_X1_every_42 (X : CX p s m args c meth cX1_every 8 (some .int) RX1 D dA ad A) (hlt : l.stackTraces = false) (hex : ∀ x ∈ c.exceptionTable.toList, False) {Xq : Nat → S → Prop} {Q : Int32 → S → Prop} : ∀ (n : Nat) (x0 : Nat) (x1 : Int32) (x2 : Int32) (x4 : Int32) (x5 : Int32) (x6 : Int32) (ι : S) (H : Heap) (locs : List Loc) (ls : Array Slot), P_X1_every_42 g Xq Q n x0 x1 x2 x4 x5 x6 ι → PW D dA A s.heap ad (HS g ι) H locs → LH ad ls 8 [(0, pX x0), (1, iX x1), (2, iX x2), (4, iX x4), (5, iX x5), (6, iX x6)] → WEi p l e ({ frames := 2110, cells := 3, slots := 18, locals := 45021 } : Room) s m args below meth c D dA ad A g Q Xq 3 18 H locs 3 18 (F0 m 42 ls []) := by
  intro n
  induction n with
  | zero =>
    intro x0 x1 x2 x4 x5 x6 ι H locs ls hF
    exact hF.elim
  | succ n ih =>
    intro x0 x1 x2 x4 x5 x6 ι H locs ls hF hP hl
    rw [P_X1_every_42] at hF
    refine ph_iload (n := 5) X hl dX1_every_42 rfl ?_
    refine lv_sipush (v := 240) X.1 X.2.1 dX1_every_44 (by decide) ?_
    refine lv_icmp_gt (tgt := 112) X.1 X.2.1 dX1_every_47 (by decide) (fun c14 => ?_) (fun c14 => ?_)
    · have hF := hF.1 c14
      refine ph_iload_n (n := 2) X hl dX1_every_112 rfl rfl ?_
      refine lv_if_ne (tgt := 121) X.1 X.2.1 dX1_every_113 (by decide) (fun c9 => ?_) (fun c9 => ?_)
      · have hF := hF.1 c9
        refine ph_iload (n := 4) X hl dX1_every_121 rfl ?_
        exact xg_iret X hP hF (Nat.le_of_ble_eq_true rfl) (Nat.le_of_ble_eq_true rfl) dX1_every_123
      · have hF := hF.2 c9
        refine ph_iload (n := 3) X hl dX1_every_116 rfl ?_
        refine lv_goto (tgt := 123) X.1 X.2.1 dX1_every_118 (by decide) ?_
        exact xg_iret X hP hF (Nat.le_of_ble_eq_true rfl) (Nat.le_of_ble_eq_true rfl) dX1_every_123
    · have hF := hF.2 c14
      refine ph_aload_n (n := 0) X hl dX1_every_50 rfl rfl ?_
      obtain ⟨hm10, hF⟩ := hF
      refine cg_getr 1 4 X in_X1 hP hm10 q803 dX1_every_51 ?_
      refine ph_iload (n := 5) X hl dX1_every_54 rfl ?_
      obtain ⟨hm11, hF⟩ := hF
      refine cg_putiN 5 5 X in_X6 tyX6 tyX6_ok nmX6 hP hm11 q596 dX1_every_56 hF (fun H locs ι12 hP hF => ?_)
      refine ph_aload_n (n := 0) X hl dX1_every_59 rfl rfl ?_
      refine cg_getr 1 4 X in_X1 hP hm10 q803 dX1_every_60 ?_
      refine ph_iload (n := 5) X hl dX1_every_63 rfl ?_
      refine lv_if_ne (tgt := 72) X.1 X.2.1 dX1_every_65 (by decide) (fun c13 => ?_) (fun c13 => ?_)
      · have hF := hF.1 c13
        refine ph_iload_n (n := 1) X hl dX1_every_72 rfl rfl ?_
        exact w_X1_every_73 X hlt hex ih _ _ _ _ _ _ _ _ _ _ _ _ hF hP hl
      · have hF := hF.2 c13
        refine lv_iconst (v := (-1)) X.1 X.2.1 dX1_every_68 (by decide) ?_
        refine lv_goto (tgt := 73) X.1 X.2.1 dX1_every_69 (by decide) ?_
        exact w_X1_every_73 X hlt hex ih _ _ _ _ _ _ _ _ _ _ _ _ hF hP hl
set_option maxHeartbeats 2000000 in
theorem met_X1_every (l : Launch) (D : va_G) (dA : Nat → ClassId) (ad : Nat → Nat) (g : GT) (hlt : l.stackTraces = false) (ι : S) (sz : Nat) {a0 : Nat} {a1 : Int32} {a2 : Int32} {Q : Int32 → S → Prop} {Xq : Nat → S → Prop} (hF : P_X1_every g Xq a0 a1 a2 ι Q) : CEi l yX1_every cX1_every 8 .int ({ frames := 2110, cells := 3, slots := 18, locals := 45021 } : Room) D dA ad g ι sz [pX a0, iX a1, iX a2] Q Xq 3 18 := by
  unfold P_X1_every at hF
  refine xg_enter [pX a0, iX a1, iX a2] (Qc := fun A => va_Qi (GQi g Q) (CB D dA ad A) A) (XC := fun A => XCC D dA ad g A Xq) (by decide +kernel) (Nat.le_of_ble_eq_true rfl) ?_
  intro p e s m args below meth c A ls X hP hl hex
  have hl : LH ad ls 8 [(0, pX a0), (1, iX a1), (2, iX a2)] := hl
  refine ph_aload_n (n := 0) X hl dX1_every_0 rfl rfl ?_
  refine ph_iload_n (n := 1) X hl dX1_every_1 rfl rfl ?_
  obtain ⟨hm18, hF⟩ := hF
  refine xg_callVq 1 [iX a1] X hP hex hm18 (met_X1_sleeperAt l D dA ad g hlt _ _ hF) (cwV 1 X.2.2.2.2.1 (lw_V q1581 q1583 qs40 q98 q1584) rfl rfl rfl (by decide +kernel) ⟨(Nat.le_of_ble_eq_true rfl), (Nat.le_of_ble_eq_true rfl)⟩) rfl hl (k8 := 0) (cs0 (k := 0)) (by decide) ⟨(Nat.le_of_ble_eq_true rfl), (Nat.le_of_ble_eq_true rfl)⟩ (Nat.le_of_ble_eq_true rfl) (Nat.le_of_ble_eq_true rfl) dX1_every_2 rfl (fun r15 ι16 H locs hF hv17 hP => ?_)
  refine ph_astore_n X hl dX1_every_5 rfl (by decide) rfl (fun ls hl => ?_)
  refine ph_iload_n (n := 3) X hl dX1_every_6 rfl rfl ?_
  refine lv_iconst (v := 0) X.1 X.2.1 dX1_every_7 (by decide) ?_
  refine lv_iconst (v := 1) X.1 X.2.1 dX1_every_8 (by decide) ?_
  refine cg_callSi [iX a2, iX 0, iX 1] X hP (met_X1_within l D dA ad g _ _ hF) (va_cwS 3 X.2.2.2.2.1 (lw_S q919 q920 q98 q921) rfl rfl rfl (by decide +kernel) ⟨Nat.le_of_ble_eq_true rfl, Nat.le_of_ble_eq_true rfl⟩) rfl hl (k8 := 0) (cs0 (k := 0)) (by decide) ⟨(Nat.le_of_ble_eq_true rfl), (Nat.le_of_ble_eq_true rfl)⟩ dX1_every_9 rfl (fun r19 ι20 H locs hF hP => ?_)
  refine xg_callSv [iX r19] X hP hex (met_X1_there l D dA ad g hlt _ _ hF) (va_cwS 1 X.2.2.2.2.1 (lw_S q1556 q1557 q98 q1558) rfl rfl rfl (by decide +kernel) ⟨(Nat.le_of_ble_eq_true rfl), (Nat.le_of_ble_eq_true rfl)⟩) rfl hl (k8 := 0) (cs0 (k := 0)) (by decide) ⟨(Nat.le_of_ble_eq_true rfl), (Nat.le_of_ble_eq_true rfl)⟩ (Nat.le_of_ble_eq_true rfl) (Nat.le_of_ble_eq_true rfl) dX1_every_12 rfl (fun ι23 H locs hF hP => ?_)
  refine ph_aload_n (n := 0) X hl dX1_every_15 rfl rfl ?_
  obtain ⟨hm28, hF⟩ := hF
  refine cg_v_isTurned X hP hl hm28 q1608 (k8 := 0) (cs0 (k := 0)) (by decide) ⟨Nat.le_of_ble_eq_true rfl, Nat.le_of_ble_eq_true rfl⟩ ⟨(Nat.le_of_ble_eq_true rfl), (Nat.le_of_ble_eq_true rfl)⟩ dX1_every_16 (fun H locs hP => ?_)
  refine xg_callSv [iX (slTurned (gK g r15))] X hP hex (met_X1_right l D dA ad g hlt _ _ hF) (va_cwS 1 X.2.2.2.2.1 (lw_S q1161 q1162 q98 q1163) rfl rfl rfl (by decide +kernel) ⟨(Nat.le_of_ble_eq_true rfl), (Nat.le_of_ble_eq_true rfl)⟩) rfl hl (k8 := 0) (cs0 (k := 0)) (by decide) ⟨(Nat.le_of_ble_eq_true rfl), (Nat.le_of_ble_eq_true rfl)⟩ (Nat.le_of_ble_eq_true rfl) (Nat.le_of_ble_eq_true rfl) dX1_every_19 rfl (fun ι30 H locs hF hP => ?_)
  refine ph_aload_n (n := 1) X hl dX1_every_22 rfl rfl ?_
  refine cg_getr 1 4 X in_X1 hP hm18 q803 dX1_every_23 ?_
  refine ph_aload_n (n := 1) X hl dX1_every_26 rfl rfl ?_
  refine cg_getr 1 3 X in_X1 hP hm18 q802 dX1_every_27 ?_
  obtain ⟨hm35, hF⟩ := hF
  refine cg_callVv 5 [pX (gR g a0 3)] X hP hm35 (met_X6_like l D dA ad g _ _ hF) (cwV 1 X.2.2.2.2.1 (lw_V q931 q907 q908 q123 q909) rfl rfl rfl (by decide +kernel) ⟨Nat.le_of_ble_eq_true rfl, Nat.le_of_ble_eq_true rfl⟩) rfl hl (k8 := 0) (cs0 (k := 0)) (by decide) ⟨(Nat.le_of_ble_eq_true rfl), (Nat.le_of_ble_eq_true rfl)⟩ dX1_every_30 rfl (fun ι33 H locs hF hP => ?_)
  refine lv_iconst (v := (-1)) X.1 X.2.1 dX1_every_33 (by decide) ?_
  refine ph_istore X hl dX1_every_34 (by decide) rfl (fun ls hl => ?_)
  refine lv_iconst (v := 0) X.1 X.2.1 dX1_every_36 (by decide) ?_
  refine ph_istore X hl dX1_every_37 (by decide) rfl (fun ls hl => ?_)
  refine lv_iconst (v := 0) X.1 X.2.1 dX1_every_39 (by decide) ?_
  refine ph_istore X hl dX1_every_40 (by decide) rfl (fun ls hl => ?_)
  obtain ⟨n9, hF⟩ := hF
  exact w_X1_every_42 X hlt hex n9 _ _ _ _ _ _ _ _ _ _ hF hP (lh_sub hl [4, 5, 6, 2, 1, 0] rfl)
def P_X1_bolsters_27 (g : GT) (Xq : Nat → S → Prop) (Q : Int32 → S → Prop) : Nat → Nat → Int32 → Int32 → Int32 → Int32 → S → Prop
  | 0, _, _, _, _, _, _ => False
  | n + 1, x0, x1, x2, x3, x4, ι => (gK g x0 = 2 ∧ (P_X1_sleepers g x0 ι (fun r1 ι2 => (((1 <<< (((if 1 < r1 then r1 else 1) : Int32) &&& 31)) ≤ x4 → ((¬ x1 = 0 → (Q x3 ι2)) ∧ (x1 = 0 → (Q x2 ι2)))) ∧ (¬ (1 <<< (((if 1 < r1 then r1 else 1) : Int32) &&& 31)) ≤ x4 → (gK g (gR g x0 4) = 6 ∧ (∀ ι7, ι7 = up2 ι2 (gR g x0 4) 6 x4 → (P_X1_tries g x0 ι7 (fun r8 ι9 => ((x2 = (-1) → (P_X1_bolsters_27 g Xq Q  n x0 x1 x4 r8 (x4 + 2) ι9)) ∧ (¬ x2 = (-1) → ((x3 < r8 → (P_X1_bolsters_27 g Xq Q  n x0 x1 x2 x3 (x4 + 2) ι9)) ∧ (¬ x3 < r8 → ((¬ r8 = x3 → (P_X1_bolsters_27 g Xq Q  n x0 x1 x4 r8 (x4 + 2) ι9)) ∧ (r8 = x3 → (P_J16_bitCount g x4 ι9 (fun r11 ι12 => (P_J16_bitCount g x2 ι12 (fun r14 ι15 => ((r11 < r14 → (P_X1_bolsters_27 g Xq Q  n x0 x1 x4 r8 (x4 + 2) ι15)) ∧ (¬ r11 < r14 → (P_X1_bolsters_27 g Xq Q  n x0 x1 x2 x3 (x4 + 2) ι15))))))))))))))))))))))
def P_X1_bolsters (g : GT) (Xq : Nat → S → Prop) (a0 : Nat) (a1 : Int32) (ι : S) (Q : Int32 → S → Prop) : Prop := (P_X1_within g a1 0 1 ι (fun r22 ι23 => (P_X1_there g Xq r22 ι23 (fun ι26 => (gK g a0 = 2 ∧ (gK g (gR g a0 4) = 6 ∧ (P_X6_like g (gR g a0 4) (gR g a0 3) ι26 (fun ι30 => (∃ n9, P_X1_bolsters_27 g Xq Q n9 a0 a1 (-1) 0 0 ι30)))))))))
set_option maxHeartbeats 2000000 in
theorem w_X1_bolsters_27 (X : CX p s m args c meth cX1_bolsters 6 (some .int) RX1 D dA ad A) (hlt : l.stackTraces = false) (hex : ∀ x ∈ c.exceptionTable.toList, False) {Xq : Nat → S → Prop} {Q : Int32 → S → Prop} : ∀ (n : Nat) (x0 : Nat) (x1 : Int32) (x2 : Int32) (x3 : Int32) (x4 : Int32) (ι : S) (H : Heap) (locs : List Loc) (ls : Array Slot), P_X1_bolsters_27 g Xq Q n x0 x1 x2 x3 x4 ι → PW D dA A s.heap ad (HS g ι) H locs → LH ad ls 6 [(0, pX x0), (1, iX x1), (2, iX x2), (3, iX x3), (4, iX x4)] → WEi p l e ({ frames := 2110, cells := 1, slots := 6, locals := 45021 } : Room) s m args below meth c D dA ad A g Q Xq 1 6 H locs 1 6 (F0 m 27 ls []) := by
  intro n
  induction n with
  | zero =>
    intro x0 x1 x2 x3 x4 ι H locs ls hF
    exact hF.elim
  | succ n ih =>
    intro x0 x1 x2 x3 x4 ι H locs ls hF hP hl
    rw [P_X1_bolsters_27] at hF
    refine ph_iload (n := 4) X hl dX1_bolsters_27 rfl ?_
    refine lv_iconst (v := 1) X.1 X.2.1 dX1_bolsters_29 (by decide) ?_
    refine lv_iconst (v := 1) X.1 X.2.1 dX1_bolsters_30 (by decide) ?_
    refine ph_aload_n (n := 0) X hl dX1_bolsters_31 rfl rfl ?_
    obtain ⟨hm4, hF⟩ := hF
    refine cg_callVi 1 [] X hP hm4 (met_X1_sleepers l D dA ad g _ _ hF) (cwV 0 X.2.2.2.2.1 (lw_V q883 q885 qs6 q98 q886) rfl rfl rfl (by decide +kernel) ⟨Nat.le_of_ble_eq_true rfl, Nat.le_of_ble_eq_true rfl⟩) rfl hl (k8 := 3) (csi (csi (csi (cs0 (k := 0))))) (by decide) ⟨(Nat.le_of_ble_eq_true rfl), (Nat.le_of_ble_eq_true rfl)⟩ dX1_bolsters_32 rfl (fun r1 ι2 H locs hF hP => ?_)
    refine va_mmax X.1 X.2.1 (X.2.2.1.trans hl.1.symm) X.2.2.2.1 (X.2.2.2.2.1 _ q1667) (X.2.2.2.2.1 _ q267) (X.2.2.2.2.1 _ q112) (X.2.2.2.2.1 _ q268) (Nat.le_of_ble_eq_true rfl) (Nat.le_trans (Nat.add_le_add_right (csi (csi (cs0 (k := 0)))) 13) (Nat.le_of_ble_eq_true rfl)) (Nat.le_of_ble_eq_true rfl) (Nat.le_of_ble_eq_true rfl) dX1_bolsters_35 ?_
    refine lv_ishl X.1 X.2.1 dX1_bolsters_38 ?_
    refine lv_icmp_ge (tgt := 101) X.1 X.2.1 dX1_bolsters_39 (by decide) (fun c21 => ?_) (fun c21 => ?_)
    · have hF := hF.1 c21
      refine ph_iload_n (n := 1) X hl dX1_bolsters_101 rfl rfl ?_
      refine lv_if_ne (tgt := 109) X.1 X.2.1 dX1_bolsters_102 (by decide) (fun c5 => ?_) (fun c5 => ?_)
      · have hF := hF.1 c5
        refine ph_iload_n (n := 3) X hl dX1_bolsters_109 rfl rfl ?_
        exact xg_iret X hP hF (Nat.le_of_ble_eq_true rfl) (Nat.le_of_ble_eq_true rfl) dX1_bolsters_110
      · have hF := hF.2 c5
        refine ph_iload_n (n := 2) X hl dX1_bolsters_105 rfl rfl ?_
        refine lv_goto (tgt := 110) X.1 X.2.1 dX1_bolsters_106 (by decide) ?_
        exact xg_iret X hP hF (Nat.le_of_ble_eq_true rfl) (Nat.le_of_ble_eq_true rfl) dX1_bolsters_110
    · have hF := hF.2 c21
      refine ph_aload_n (n := 0) X hl dX1_bolsters_42 rfl rfl ?_
      refine cg_getr 1 4 X in_X1 hP hm4 q803 dX1_bolsters_43 ?_
      refine ph_iload (n := 4) X hl dX1_bolsters_46 rfl ?_
      obtain ⟨hm6, hF⟩ := hF
      refine cg_putiN 5 6 X in_X6 tyX6 tyX6_ok nmX6 hP hm6 q598 dX1_bolsters_48 hF (fun H locs ι7 hP hF => ?_)
      refine ph_aload_n (n := 0) X hl dX1_bolsters_51 rfl rfl ?_
      refine cg_callVi 1 [] X hP hm4 (met_X1_tries l D dA ad g _ _ hF) (cwV 0 X.2.2.2.2.1 (lw_V q957 q959 qs13 q98 q960) rfl rfl rfl (by decide +kernel) ⟨Nat.le_of_ble_eq_true rfl, Nat.le_of_ble_eq_true rfl⟩) rfl hl (k8 := 0) (cs0 (k := 0)) (by decide) ⟨(Nat.le_of_ble_eq_true rfl), (Nat.le_of_ble_eq_true rfl)⟩ dX1_bolsters_52 rfl (fun r8 ι9 H locs hF hP => ?_)
      refine ph_istore X hl dX1_bolsters_55 (by decide) rfl (fun ls hl => ?_)
      refine ph_iload_n (n := 3) X hl dX1_bolsters_57 rfl rfl ?_
      refine lv_iconst (v := (-1)) X.1 X.2.1 dX1_bolsters_58 (by decide) ?_
      refine lv_icmp_eq (tgt := 89) X.1 X.2.1 dX1_bolsters_59 (by decide) (fun c20 => ?_) (fun c20 => ?_)
      · have hF := hF.1 c20
        refine ph_iload (n := 5) X hl dX1_bolsters_89 rfl ?_
        refine ph_istore_n X hl dX1_bolsters_91 rfl (by decide) rfl (fun ls hl => ?_)
        refine ph_iload (n := 1) X hl dX1_bolsters_92 rfl ?_
        refine ph_istore_n X hl dX1_bolsters_94 rfl (by decide) rfl (fun ls hl => ?_)
        refine ph_iinc (v := x4 + 2) (k := 5) X hl dX1_bolsters_95 rfl rfl (by decide) rfl (fun ls hl => ?_)
        refine lv_goto (tgt := 27) X.1 X.2.1 dX1_bolsters_98 (by decide) ?_
        exact ih _ _ _ _ _ _ _ _ _ hF hP (lh_sub hl [4, 5, 2, 1, 0] rfl)
      · have hF := hF.2 c20
        refine ph_iload (n := 0) X hl dX1_bolsters_62 rfl ?_
        refine ph_iload_n (n := 4) X hl dX1_bolsters_64 rfl rfl ?_
        refine lv_icmp_gt (tgt := 95) X.1 X.2.1 dX1_bolsters_65 (by decide) (fun c19 => ?_) (fun c19 => ?_)
        · have hF := hF.1 c19
          refine ph_iinc (v := x4 + 2) (k := 5) X hl dX1_bolsters_95 rfl rfl (by decide) rfl (fun ls hl => ?_)
          refine lv_goto (tgt := 27) X.1 X.2.1 dX1_bolsters_98 (by decide) ?_
          exact ih _ _ _ _ _ _ _ _ _ hF hP (lh_sub hl [2, 3, 4, 5, 0] rfl)
        · have hF := hF.2 c19
          refine ph_iload (n := 0) X hl dX1_bolsters_68 rfl ?_
          refine ph_iload_n (n := 4) X hl dX1_bolsters_70 rfl rfl ?_
          refine lv_icmp_ne (tgt := 89) X.1 X.2.1 dX1_bolsters_71 (by decide) (fun c18 => ?_) (fun c18 => ?_)
          · have hF := hF.1 c18
            refine ph_iload (n := 5) X hl dX1_bolsters_89 rfl ?_
            refine ph_istore_n X hl dX1_bolsters_91 rfl (by decide) rfl (fun ls hl => ?_)
            refine ph_iload (n := 1) X hl dX1_bolsters_92 rfl ?_
            refine ph_istore_n X hl dX1_bolsters_94 rfl (by decide) rfl (fun ls hl => ?_)
            refine ph_iinc (v := x4 + 2) (k := 5) X hl dX1_bolsters_95 rfl rfl (by decide) rfl (fun ls hl => ?_)
            refine lv_goto (tgt := 27) X.1 X.2.1 dX1_bolsters_98 (by decide) ?_
            exact ih _ _ _ _ _ _ _ _ _ hF hP (lh_sub hl [4, 5, 2, 1, 0] rfl)
          · have hF := hF.2 c18
            refine ph_iload (n := 5) X hl dX1_bolsters_74 rfl ?_
            refine cg_callSi [iX x4] X hP (met_J16_bitCount l D dA ad g _ _ hF) (va_cwS 1 X.2.2.2.2.1 (lw_S q1668 q1669 q118 q1670) rfl rfl rfl (by decide +kernel) ⟨Nat.le_of_ble_eq_true rfl, Nat.le_of_ble_eq_true rfl⟩) rfl hl (k8 := 0) (cs0 (k := 0)) (by decide) ⟨(Nat.le_of_ble_eq_true rfl), (Nat.le_of_ble_eq_true rfl)⟩ dX1_bolsters_76 rfl (fun r11 ι12 H locs hF hP => ?_)
            refine ph_iload_n (n := 3) X hl dX1_bolsters_79 rfl rfl ?_
            refine cg_callSi [iX x2] X hP (met_J16_bitCount l D dA ad g _ _ hF) (va_cwS 1 X.2.2.2.2.1 (lw_S q1668 q1669 q118 q1670) rfl rfl rfl (by decide +kernel) ⟨Nat.le_of_ble_eq_true rfl, Nat.le_of_ble_eq_true rfl⟩) rfl hl (k8 := 1) (csi (cs0 (k := 0))) (by decide) ⟨(Nat.le_of_ble_eq_true rfl), (Nat.le_of_ble_eq_true rfl)⟩ dX1_bolsters_80 rfl (fun r14 ι15 H locs hF hP => ?_)
            refine lv_icmp_lt (tgt := 89) X.1 X.2.1 dX1_bolsters_83 (by decide) (fun c17 => ?_) (fun c17 => ?_)
            · have hF := hF.1 c17
              refine ph_iload (n := 5) X hl dX1_bolsters_89 rfl ?_
              refine ph_istore_n X hl dX1_bolsters_91 rfl (by decide) rfl (fun ls hl => ?_)
              refine ph_iload (n := 1) X hl dX1_bolsters_92 rfl ?_
              refine ph_istore_n X hl dX1_bolsters_94 rfl (by decide) rfl (fun ls hl => ?_)
              refine ph_iinc (v := x4 + 2) (k := 5) X hl dX1_bolsters_95 rfl rfl (by decide) rfl (fun ls hl => ?_)
              refine lv_goto (tgt := 27) X.1 X.2.1 dX1_bolsters_98 (by decide) ?_
              exact ih _ _ _ _ _ _ _ _ _ hF hP (lh_sub hl [4, 5, 2, 1, 0] rfl)
            · have hF := hF.2 c17
              refine lv_goto (tgt := 95) X.1 X.2.1 dX1_bolsters_86 (by decide) ?_
              refine ph_iinc (v := x4 + 2) (k := 5) X hl dX1_bolsters_95 rfl rfl (by decide) rfl (fun ls hl => ?_)
              refine lv_goto (tgt := 27) X.1 X.2.1 dX1_bolsters_98 (by decide) ?_
              exact ih _ _ _ _ _ _ _ _ _ hF hP (lh_sub hl [2, 3, 4, 5, 0] rfl)
set_option maxHeartbeats 2000000 in
theorem met_X1_bolsters (l : Launch) (D : va_G) (dA : Nat → ClassId) (ad : Nat → Nat) (g : GT) (hlt : l.stackTraces = false) (ι : S) (sz : Nat) {a0 : Nat} {a1 : Int32} {Q : Int32 → S → Prop} {Xq : Nat → S → Prop} (hF : P_X1_bolsters g Xq a0 a1 ι Q) : CEi l yX1_bolsters cX1_bolsters 6 .int ({ frames := 2110, cells := 1, slots := 6, locals := 45021 } : Room) D dA ad g ι sz [pX a0, iX a1] Q Xq 1 6 := by
  unfold P_X1_bolsters at hF
  refine xg_enter [pX a0, iX a1] (Qc := fun A => va_Qi (GQi g Q) (CB D dA ad A) A) (XC := fun A => XCC D dA ad g A Xq) (by decide +kernel) (Nat.le_of_ble_eq_true rfl) ?_
  intro p e s m args below meth c A ls X hP hl hex
  have hl : LH ad ls 6 [(0, pX a0), (1, iX a1)] := hl
  refine ph_iload_n (n := 1) X hl dX1_bolsters_0 rfl rfl ?_
  refine lv_iconst (v := 0) X.1 X.2.1 dX1_bolsters_1 (by decide) ?_
  refine lv_iconst (v := 1) X.1 X.2.1 dX1_bolsters_2 (by decide) ?_
  refine cg_callSi [iX a1, iX 0, iX 1] X hP (met_X1_within l D dA ad g _ _ hF) (va_cwS 3 X.2.2.2.2.1 (lw_S q919 q920 q98 q921) rfl rfl rfl (by decide +kernel) ⟨Nat.le_of_ble_eq_true rfl, Nat.le_of_ble_eq_true rfl⟩) rfl hl (k8 := 0) (cs0 (k := 0)) (by decide) ⟨(Nat.le_of_ble_eq_true rfl), (Nat.le_of_ble_eq_true rfl)⟩ dX1_bolsters_3 rfl (fun r22 ι23 H locs hF hP => ?_)
  refine xg_callSv [iX r22] X hP hex (met_X1_there l D dA ad g hlt _ _ hF) (va_cwS 1 X.2.2.2.2.1 (lw_S q1556 q1557 q98 q1558) rfl rfl rfl (by decide +kernel) ⟨(Nat.le_of_ble_eq_true rfl), (Nat.le_of_ble_eq_true rfl)⟩) rfl hl (k8 := 0) (cs0 (k := 0)) (by decide) ⟨(Nat.le_of_ble_eq_true rfl), (Nat.le_of_ble_eq_true rfl)⟩ (Nat.le_of_ble_eq_true rfl) (Nat.le_of_ble_eq_true rfl) dX1_bolsters_6 rfl (fun ι26 H locs hF hP => ?_)
  refine ph_aload_n (n := 0) X hl dX1_bolsters_9 rfl rfl ?_
  obtain ⟨hm28, hF⟩ := hF
  refine cg_getr 1 4 X in_X1 hP hm28 q803 dX1_bolsters_10 ?_
  refine ph_aload_n (n := 0) X hl dX1_bolsters_13 rfl rfl ?_
  refine cg_getr 1 3 X in_X1 hP hm28 q802 dX1_bolsters_14 ?_
  obtain ⟨hm32, hF⟩ := hF
  refine cg_callVv 5 [pX (gR g a0 3)] X hP hm32 (met_X6_like l D dA ad g _ _ hF) (cwV 1 X.2.2.2.2.1 (lw_V q931 q907 q908 q123 q909) rfl rfl rfl (by decide +kernel) ⟨Nat.le_of_ble_eq_true rfl, Nat.le_of_ble_eq_true rfl⟩) rfl hl (k8 := 0) (cs0 (k := 0)) (by decide) ⟨(Nat.le_of_ble_eq_true rfl), (Nat.le_of_ble_eq_true rfl)⟩ dX1_bolsters_17 rfl (fun ι30 H locs hF hP => ?_)
  refine lv_iconst (v := (-1)) X.1 X.2.1 dX1_bolsters_20 (by decide) ?_
  refine ph_istore_n X hl dX1_bolsters_21 rfl (by decide) rfl (fun ls hl => ?_)
  refine lv_iconst (v := 0) X.1 X.2.1 dX1_bolsters_22 (by decide) ?_
  refine ph_istore_n X hl dX1_bolsters_23 rfl (by decide) rfl (fun ls hl => ?_)
  refine lv_iconst (v := 0) X.1 X.2.1 dX1_bolsters_24 (by decide) ?_
  refine ph_istore X hl dX1_bolsters_25 (by decide) rfl (fun ls hl => ?_)
  obtain ⟨n9, hF⟩ := hF
  exact w_X1_bolsters_27 X hlt hex n9 _ _ _ _ _ _ _ _ _ hF hP (lh_sub hl [3, 4, 2, 1, 0] rfl)
def P_X1_free (g : GT) (Xq : Nat → S → Prop) (a0 : Nat) (a1 : Int32) (ι : S) (Q : Int32 → S → Prop) : Prop := (gK g a0 = 2 ∧ (P_X1_sleeperAt g Xq a0 a1 ι (fun r1 ι2 => (gK g (gR g a0 4) = 6 ∧ (P_X6_like g (gR g a0 4) (gR g a0 3) ι2 (fun ι6 => (∀ ι9, ι9 = up2 ι6 (gR g a0 4) 7 1 → (gK g (gR g a0 11) = 7 ∧ (P_X7_all g (gR g a0 11) ι9 (fun ι11 => (gK g (gR g (gR g a0 11) 4) = 100 ∧ (vp_in a1 (gL g (gR g (gR g a0 11) 4)) ∧ (Q (ι11 (gR g (gR g a0 11) 4) a1.toNatClampNeg) ι11)))))))))))))
set_option maxHeartbeats 2000000 in
theorem met_X1_free (l : Launch) (D : va_G) (dA : Nat → ClassId) (ad : Nat → Nat) (g : GT) (hlt : l.stackTraces = false) (ι : S) (sz : Nat) {a0 : Nat} {a1 : Int32} {Q : Int32 → S → Prop} {Xq : Nat → S → Prop} (hF : P_X1_free g Xq a0 a1 ι Q) : CEi l yX1_free cX1_free 2 .int ({ frames := 2109, cells := 1, slots := 6, locals := 45001 } : Room) D dA ad g ι sz [pX a0, iX a1] Q Xq 1 6 := by
  unfold P_X1_free at hF
  refine xg_enter [pX a0, iX a1] (Qc := fun A => va_Qi (GQi g Q) (CB D dA ad A) A) (XC := fun A => XCC D dA ad g A Xq) (by decide +kernel) (Nat.le_of_ble_eq_true rfl) ?_
  intro p e s m args below meth c A ls X hP hl hex
  have hl : LH ad ls 2 [(0, pX a0), (1, iX a1)] := hl
  refine ph_aload_n (n := 0) X hl dX1_free_0 rfl rfl ?_
  refine ph_iload_n (n := 1) X hl dX1_free_1 rfl rfl ?_
  obtain ⟨hm4, hF⟩ := hF
  refine xg_callVq 1 [iX a1] X hP hex hm4 (met_X1_sleeperAt l D dA ad g hlt _ _ hF) (cwV 1 X.2.2.2.2.1 (lw_V q1581 q1583 qs40 q98 q1584) rfl rfl rfl (by decide +kernel) ⟨(Nat.le_of_ble_eq_true rfl), (Nat.le_of_ble_eq_true rfl)⟩) rfl hl (k8 := 0) (cs0 (k := 0)) (by decide) ⟨(Nat.le_of_ble_eq_true rfl), (Nat.le_of_ble_eq_true rfl)⟩ (Nat.le_of_ble_eq_true rfl) (Nat.le_of_ble_eq_true rfl) dX1_free_2 rfl (fun r1 ι2 H locs hF hv3 hP => ?_)
  refine ph_pop_r X dX1_free_5 ?_
  refine ph_aload_n (n := 0) X hl dX1_free_6 rfl rfl ?_
  refine cg_getr 1 4 X in_X1 hP hm4 q803 dX1_free_7 ?_
  refine ph_aload_n (n := 0) X hl dX1_free_10 rfl rfl ?_
  refine cg_getr 1 3 X in_X1 hP hm4 q802 dX1_free_11 ?_
  obtain ⟨hm8, hF⟩ := hF
  refine cg_callVv 5 [pX (gR g a0 3)] X hP hm8 (met_X6_like l D dA ad g _ _ hF) (cwV 1 X.2.2.2.2.1 (lw_V q931 q907 q908 q123 q909) rfl rfl rfl (by decide +kernel) ⟨Nat.le_of_ble_eq_true rfl, Nat.le_of_ble_eq_true rfl⟩) rfl hl (k8 := 0) (cs0 (k := 0)) (by decide) ⟨(Nat.le_of_ble_eq_true rfl), (Nat.le_of_ble_eq_true rfl)⟩ dX1_free_14 rfl (fun ι6 H locs hF hP => ?_)
  refine ph_aload_n (n := 0) X hl dX1_free_17 rfl rfl ?_
  refine cg_getr 1 4 X in_X1 hP hm4 q803 dX1_free_18 ?_
  refine lv_iconst (v := 1) X.1 X.2.1 dX1_free_21 (by decide) ?_
  refine cg_putzN 5 7 X in_X6 tyX6 tyX6_ok nmX6 hP hm8 q600 dX1_free_22 isB_1 hF (fun H locs ι9 hP hF => ?_)
  refine ph_aload_n (n := 0) X hl dX1_free_25 rfl rfl ?_
  refine cg_getr 1 11 X in_X1 hP hm4 q810 dX1_free_26 ?_
  obtain ⟨hm13, hF⟩ := hF
  refine cg_callVv 6 [] X hP hm13 (met_X7_all l D dA ad g _ _ hF) (cwV 0 X.2.2.2.2.1 (lw_V q961 q962 q963 q124 q964) rfl rfl rfl (by decide +kernel) ⟨Nat.le_of_ble_eq_true rfl, Nat.le_of_ble_eq_true rfl⟩) rfl hl (k8 := 0) (cs0 (k := 0)) (by decide) ⟨(Nat.le_of_ble_eq_true rfl), (Nat.le_of_ble_eq_true rfl)⟩ dX1_free_29 rfl (fun ι11 H locs hF hP => ?_)
  refine ph_aload_n (n := 0) X hl dX1_free_32 rfl rfl ?_
  refine cg_getr 1 11 X in_X1 hP hm4 q810 dX1_free_33 ?_
  refine cg_getrN 6 4 X in_X7 hP hm13 q723 dX1_free_36 ?_
  refine ph_iload_n (n := 1) X hl dX1_free_39 rfl rfl ?_
  obtain ⟨hm14, hF⟩ := hF
  obtain ⟨hr15, hF⟩ := hF
  refine cg_iald X hP hm14 hr15 (k := a1.toNatClampNeg) rfl dX1_free_40 ?_
  exact xg_iret X hP hF (Nat.le_of_ble_eq_true rfl) (Nat.le_of_ble_eq_true rfl) dX1_free_41
def P_X1_outs (g : GT) (Xq : Nat → S → Prop) (a0 : Nat) (a1 : Int32) (ι : S) (Q : Int32 → S → Prop) : Prop := (P_X1_within g a1 0 1 ι (fun r1 ι2 => (P_X1_there g Xq r1 ι2 (fun ι5 => (gK g a0 = 2 ∧ (gK g (gR g a0 3) = 6 ∧ (P_X1_goings g a0 (gR g (gR g a0 3) 0) ι5 (fun r9 ι10 => ((¬ a1 = 0 → (P_X1_common g 10 r9 ι10 (fun r12 ι13 => (¬ r12 = 0 ∧ (Q (10 / r12) ι13))))) ∧ (a1 = 0 → (P_X1_common g 10 r9 ι10 (fun r16 ι17 => (¬ r16 = 0 ∧ (Q (r9 / r16) ι17))))))))))))))
set_option maxHeartbeats 2000000 in
theorem met_X1_outs (l : Launch) (D : va_G) (dA : Nat → ClassId) (ad : Nat → Nat) (g : GT) (hlt : l.stackTraces = false) (ι : S) (sz : Nat) {a0 : Nat} {a1 : Int32} {Q : Int32 → S → Prop} {Xq : Nat → S → Prop} (hF : P_X1_outs g Xq a0 a1 ι Q) : CEi l yX1_outs cX1_outs 3 .int ({ frames := 7, cells := 1, slots := 6, locals := 120 } : Room) D dA ad g ι sz [pX a0, iX a1] Q Xq 1 6 := by
  unfold P_X1_outs at hF
  refine xg_enter [pX a0, iX a1] (Qc := fun A => va_Qi (GQi g Q) (CB D dA ad A) A) (XC := fun A => XCC D dA ad g A Xq) (by decide +kernel) (Nat.le_of_ble_eq_true rfl) ?_
  intro p e s m args below meth c A ls X hP hl hex
  have hl : LH ad ls 3 [(0, pX a0), (1, iX a1)] := hl
  refine ph_iload_n (n := 1) X hl dX1_outs_0 rfl rfl ?_
  refine lv_iconst (v := 0) X.1 X.2.1 dX1_outs_1 (by decide) ?_
  refine lv_iconst (v := 1) X.1 X.2.1 dX1_outs_2 (by decide) ?_
  refine cg_callSi [iX a1, iX 0, iX 1] X hP (met_X1_within l D dA ad g _ _ hF) (va_cwS 3 X.2.2.2.2.1 (lw_S q919 q920 q98 q921) rfl rfl rfl (by decide +kernel) ⟨Nat.le_of_ble_eq_true rfl, Nat.le_of_ble_eq_true rfl⟩) rfl hl (k8 := 0) (cs0 (k := 0)) (by decide) ⟨(Nat.le_of_ble_eq_true rfl), (Nat.le_of_ble_eq_true rfl)⟩ dX1_outs_3 rfl (fun r1 ι2 H locs hF hP => ?_)
  refine xg_callSv [iX r1] X hP hex (met_X1_there l D dA ad g hlt _ _ hF) (va_cwS 1 X.2.2.2.2.1 (lw_S q1556 q1557 q98 q1558) rfl rfl rfl (by decide +kernel) ⟨(Nat.le_of_ble_eq_true rfl), (Nat.le_of_ble_eq_true rfl)⟩) rfl hl (k8 := 0) (cs0 (k := 0)) (by decide) ⟨(Nat.le_of_ble_eq_true rfl), (Nat.le_of_ble_eq_true rfl)⟩ (Nat.le_of_ble_eq_true rfl) (Nat.le_of_ble_eq_true rfl) dX1_outs_6 rfl (fun ι5 H locs hF hP => ?_)
  refine ph_aload_n (n := 0) X hl dX1_outs_9 rfl rfl ?_
  refine ph_aload_n (n := 0) X hl dX1_outs_10 rfl rfl ?_
  obtain ⟨hm7, hF⟩ := hF
  refine cg_getr 1 3 X in_X1 hP hm7 q802 dX1_outs_11 ?_
  obtain ⟨hm8, hF⟩ := hF
  refine cg_getrN 5 0 X in_X6 hP hm8 q582 dX1_outs_14 ?_
  refine cg_callVi 1 [pX (gR g (gR g a0 3) 0)] X hP hm7 (met_X1_goings l D dA ad g _ _ hF) (cwV 1 X.2.2.2.2.1 (lw_V q1129 q1131 qs22 q98 q1132) rfl rfl rfl (by decide +kernel) ⟨Nat.le_of_ble_eq_true rfl, Nat.le_of_ble_eq_true rfl⟩) rfl hl (k8 := 0) (cs0 (k := 0)) (by decide) ⟨(Nat.le_of_ble_eq_true rfl), (Nat.le_of_ble_eq_true rfl)⟩ dX1_outs_17 rfl (fun r9 ι10 H locs hF hP => ?_)
  refine ph_istore_n X hl dX1_outs_20 rfl (by decide) rfl (fun ls hl => ?_)
  refine ph_iload_n (n := 2) X hl dX1_outs_21 rfl rfl ?_
  refine lv_if_ne (tgt := 29) X.1 X.2.1 dX1_outs_22 (by decide) (fun c20 => ?_) (fun c20 => ?_)
  · have hF := hF.1 c20
    refine lv_bipush (v := 10) X.1 X.2.1 dX1_outs_29 (by decide) ?_
    refine lv_bipush (v := 10) X.1 X.2.1 dX1_outs_31 (by decide) ?_
    refine ph_iload_n (n := 0) X hl dX1_outs_33 rfl rfl ?_
    refine cg_callSi [iX 10, iX r9] X hP (met_X1_common l D dA ad g _ _ hF) (va_cwS 2 X.2.2.2.2.1 (lw_S q1688 q1689 q98 q1690) rfl rfl rfl (by decide +kernel) ⟨Nat.le_of_ble_eq_true rfl, Nat.le_of_ble_eq_true rfl⟩) rfl hl (k8 := 1) (csi (cs0 (k := 0))) (by decide) ⟨(Nat.le_of_ble_eq_true rfl), (Nat.le_of_ble_eq_true rfl)⟩ dX1_outs_34 rfl (fun r12 ι13 H locs hF hP => ?_)
    obtain ⟨hz15, hF⟩ := hF
    refine lv_idiv X.1 X.2.1 dX1_outs_37 hz15 ?_
    exact xg_iret X hP hF (Nat.le_of_ble_eq_true rfl) (Nat.le_of_ble_eq_true rfl) dX1_outs_38
  · have hF := hF.2 c20
    refine ph_iload_n (n := 0) X hl dX1_outs_25 rfl rfl ?_
    refine lv_goto (tgt := 31) X.1 X.2.1 dX1_outs_26 (by decide) ?_
    refine lv_bipush (v := 10) X.1 X.2.1 dX1_outs_31 (by decide) ?_
    refine ph_iload_n (n := 0) X hl dX1_outs_33 rfl rfl ?_
    refine cg_callSi [iX 10, iX r9] X hP (met_X1_common l D dA ad g _ _ hF) (va_cwS 2 X.2.2.2.2.1 (lw_S q1688 q1689 q98 q1690) rfl rfl rfl (by decide +kernel) ⟨Nat.le_of_ble_eq_true rfl, Nat.le_of_ble_eq_true rfl⟩) rfl hl (k8 := 1) (csi (cs0 (k := 0))) (by decide) ⟨(Nat.le_of_ble_eq_true rfl), (Nat.le_of_ble_eq_true rfl)⟩ dX1_outs_34 rfl (fun r16 ι17 H locs hF hP => ?_)
    obtain ⟨hz19, hF⟩ := hF
    refine lv_idiv X.1 X.2.1 dX1_outs_37 hz19 ?_
    exact xg_iret X hP hF (Nat.le_of_ble_eq_true rfl) (Nat.le_of_ble_eq_true rfl) dX1_outs_38
def P_X1_fair_205 (g : GT) (Xq : Nat → S → Prop) (Q : Int32 → S → Prop) (k148 : Nat → Int32 → Int32 → Int32 → S → Prop) (x0 : Nat) (x3 : Int32) (x4 : Int32) (x5 : Int32) (ι : S) : Prop := ((x4 = (-1) → (gK g x0 = 2 ∧ (gK g (gR g x0 19) = 100 ∧ (vp_in x5 (gL g (gR g x0 19)) ∧ (k148 x0 x3 (ι (gR g x0 19) x5.toNatClampNeg) (x5 + 1) ι))))) ∧ (¬ x4 = (-1) → (gK g x0 = 2 ∧ (gK g (gR g x0 19) = 100 ∧ (vp_in x5 (gL g (gR g x0 19)) ∧ ((x4 ≤ (ι (gR g x0 19) x5.toNatClampNeg) → (k148 x0 x3 x4 (x5 + 1) ι)) ∧ (¬ x4 ≤ (ι (gR g x0 19) x5.toNatClampNeg) → (vp_in x5 (gL g (gR g x0 19)) ∧ (k148 x0 x3 (ι (gR g x0 19) x5.toNatClampNeg) (x5 + 1) ι)))))))))
def P_X1_fair_197 (g : GT) (Xq : Nat → S → Prop) (Q : Int32 → S → Prop) (k148 : Nat → Int32 → Int32 → Int32 → S → Prop) (x0 : Nat) (x4 : Int32) (x5 : Int32) (ι : S) : Prop := (gK g x0 = 2 ∧ (gK g (gR g x0 19) = 100 ∧ (vp_in x5 (gL g (gR g x0 19)) ∧ (P_X1_fair_205 g Xq Q k148 x0 (ι (gR g x0 19) x5.toNatClampNeg) x4 x5 ι))))
def P_X1_fair_148 (g : GT) (Xq : Nat → S → Prop) (Q : Int32 → S → Prop) : Nat → Nat → Int32 → Int32 → Int32 → S → Prop
  | 0, _, _, _, _, _ => False
  | n + 1, x0, x3, x4, x5, ι => (gK g x0 = 2 ∧ (P_X1_sleepers g x0 ι (fun r13 ι14 => ((r13 ≤ x5 → (Q (x3 - x4) ι14)) ∧ (¬ r13 ≤ x5 → (gK g (gR g x0 0) = 3 ∧ (gK g (gR g (gR g x0 0) 6) = 18 ∧ (P_J2_get g (gR g (gR g x0 0) 6) x5 ι14 (fun r18 ι19 => (isSl (gK g r18) ∧ ((¬ (slWoken (gK g r18)) = 0 → ((x3 = (-1) → (P_X1_fair_197 g Xq Q (fun z0 z1 z2 z3 z4 => P_X1_fair_148 g Xq Q  n z0 z1 z2 z3 z4) x0 x4 x5 ι19)) ∧ (¬ x3 = (-1) → (gK g (gR g x0 19) = 100 ∧ (vp_in x5 (gL g (gR g x0 19)) ∧ (((ι19 (gR g x0 19) x5.toNatClampNeg) ≤ x3 → (P_X1_fair_205 g Xq Q (fun z0 z1 z2 z3 z4 => P_X1_fair_148 g Xq Q  n z0 z1 z2 z3 z4) x0 x3 x4 x5 ι19)) ∧ (¬ (ι19 (gR g x0 19) x5.toNatClampNeg) ≤ x3 → (P_X1_fair_197 g Xq Q (fun z0 z1 z2 z3 z4 => P_X1_fair_148 g Xq Q  n z0 z1 z2 z3 z4) x0 x4 x5 ι19)))))))) ∧ ((slWoken (gK g r18)) = 0 → (P_X1_fair_148 g Xq Q  n x0 x3 x4 (x5 + 1) ι19)))))))))))))
def P_X1_fair_80 (g : GT) (Xq : Nat → S → Prop) (Q : Int32 → S → Prop) (k65 : Nat → Int32 → Int32 → Int32 → S → Prop) : Nat → Nat → Int32 → Int32 → Int32 → Int32 → S → Prop
  | 0, _, _, _, _, _, _ => False
  | n + 1, x0, x1, x2, x3, x4, ι => (gK g x0 = 2 ∧ (P_X1_sleepers g x0 ι (fun r32 ι33 => ((r32 ≤ x4 → (gK g (gR g x0 4) = 6 ∧ (P_X6_goesRound g (gR g x0 4) ι33 (fun ι37 => (k65 x0 x1 x2 (x3 + 1) ι37))))) ∧ (¬ r32 ≤ x4 → (gK g (gR g x0 19) = 100 ∧ (vp_in x4 (gL g (gR g x0 19)) ∧ (gK g (gR g x0 11) = 7 ∧ (gK g (gR g (gR g x0 11) 4) = 100 ∧ (vp_in x4 (gL g (gR g (gR g x0 11) 4)) ∧ (vp_in x4 (gL g (gR g x0 19)) ∧ (∀ ι45, ι45 = up2 ι33 (gR g x0 19) x4.toNatClampNeg ((ι33 (gR g x0 19) x4.toNatClampNeg) + (ι33 (gR g (gR g x0 11) 4) x4.toNatClampNeg)) → (P_X1_fair_80 g Xq Q k65  n x0 x1 x2 x3 (x4 + 1) ι45)))))))))))))
def P_X1_fair_65 (g : GT) (Xq : Nat → S → Prop) (Q : Int32 → S → Prop) : Nat → Nat → Int32 → Int32 → Int32 → S → Prop
  | 0, _, _, _, _, _ => False
  | n + 1, x0, x1, x2, x3, ι => ((x1 ≤ x3 → ((x2 = (-1) → (∃ n9, P_X1_fair_148 g Xq Q n9 x0 (-1) (-1) 0 ι)) ∧ (¬ x2 = (-1) → (gK g x0 = 2 ∧ (gK g (gR g x0 19) = 100 ∧ (vp_in x2 (gL g (gR g x0 19)) ∧ (Q (ι (gR g x0 19) x2.toNatClampNeg) ι))))))) ∧ (¬ x1 ≤ x3 → (gK g x0 = 2 ∧ (gK g (gR g x0 11) = 7 ∧ (P_X7_all g (gR g x0 11) ι (fun ι54 => (∃ n9, P_X1_fair_80 g Xq Q (fun z0 z1 z2 z3 z4 => P_X1_fair_65 g Xq Q  n z0 z1 z2 z3 z4) n9 x0 x1 x2 x3 0 ι54)))))))
def P_X1_fair_44 (g : GT) (Xq : Nat → S → Prop) (Q : Int32 → S → Prop) : Nat → Nat → Int32 → Int32 → Int32 → S → Prop
  | 0, _, _, _, _, _ => False
  | n + 1, x0, x1, x2, x3, ι => ((7 ≤ x3 → (∃ n9, P_X1_fair_65 g Xq Q n9 x0 x1 x2 0 ι)) ∧ (¬ 7 ≤ x3 → (gK g x0 = 2 ∧ (gK g (gR g x0 19) = 100 ∧ (vp_in x3 (gL g (gR g x0 19)) ∧ (∀ ι60, ι60 = up2 ι (gR g x0 19) x3.toNatClampNeg 0 → (P_X1_fair_44 g Xq Q  n x0 x1 x2 (x3 + 1) ι60)))))))
def P_X1_fair_18 (g : GT) (Xq : Nat → S → Prop) (Q : Int32 → S → Prop) (y0 : Int32) (x0 : Nat) (x1 : Int32) (x2 : Int32) (ι : S) : Prop := (P_X1_there g Xq y0 ι (fun ι64 => (P_X1_within g x1 0 30 ι64 (fun r66 ι67 => (P_X1_right g Xq r66 ι67 (fun ι70 => (gK g x0 = 2 ∧ (gK g (gR g x0 4) = 6 ∧ (P_X6_like g (gR g x0 4) (gR g x0 3) ι70 (fun ι74 => (∃ n9, P_X1_fair_44 g Xq Q n9 x0 x1 x2 0 ι74)))))))))))
def P_X1_fair_17 (g : GT) (Xq : Nat → S → Prop) (Q : Int32 → S → Prop) (x0 : Nat) (x1 : Int32) (x2 : Int32) (ι : S) : Prop := (P_X1_fair_18 g Xq Q 0 x0 x1 x2 ι)
def P_X1_fair (g : GT) (Xq : Nat → S → Prop) (a0 : Nat) (a1 : Int32) (a2 : Int32) (ι : S) (Q : Int32 → S → Prop) : Prop := ((a2 < (-1) → (P_X1_fair_17 g Xq Q a0 a1 a2 ι)) ∧ (¬ a2 < (-1) → (gK g a0 = 2 ∧ (P_X1_sleepers g a0 ι (fun r77 ι78 => ((r77 ≤ a2 → (P_X1_fair_17 g Xq Q a0 a1 a2 ι78)) ∧ (¬ r77 ≤ a2 → (P_X1_fair_18 g Xq Q 1 a0 a1 a2 ι78))))))))
set_option maxHeartbeats 2000000 in
theorem w_X1_fair_205 (X : CX p s m args c meth cX1_fair 6 (some .int) RX1 D dA ad A) (hlt : l.stackTraces = false) (hex : ∀ x ∈ c.exceptionTable.toList, False) {Xq : Nat → S → Prop} {Q : Int32 → S → Prop} {k148 : Nat → Int32 → Int32 → Int32 → S → Prop} (hk148 : ∀ (x0 : Nat) (x3 : Int32) (x4 : Int32) (x5 : Int32) (ι : S) (H : Heap) (locs : List Loc) (ls : Array Slot), k148 x0 x3 x4 x5 ι → PW D dA A s.heap ad (HS g ι) H locs → LH ad ls 6 [(0, pX x0), (3, iX x3), (4, iX x4), (5, iX x5)] → WEi p l e ({ frames := 2109, cells := 2, slots := 12, locals := 45001 } : Room) s m args below meth c D dA ad A g Q Xq 2 12 H locs 2 12 (F0 m 148 ls [])) : ∀ (x0 : Nat) (x3 : Int32) (x4 : Int32) (x5 : Int32) (ι : S) (H : Heap) (locs : List Loc) (ls : Array Slot), P_X1_fair_205 g Xq Q k148 x0 x3 x4 x5 ι → PW D dA A s.heap ad (HS g ι) H locs → LH ad ls 6 [(0, pX x0), (3, iX x3), (4, iX x4), (5, iX x5)] → WEi p l e ({ frames := 2109, cells := 2, slots := 12, locals := 45001 } : Room) s m args below meth c D dA ad A g Q Xq 2 12 H locs 2 12 (F0 m 205 ls []) := by
  intro x0 x3 x4 x5 ι H locs ls hF hP hl
  unfold P_X1_fair_205 at hF
  refine ph_iload (n := 2) X hl dX1_fair_205 rfl ?_
  refine lv_iconst (v := (-1)) X.1 X.2.1 dX1_fair_207 (by decide) ?_
  refine lv_icmp_eq (tgt := 223) X.1 X.2.1 dX1_fair_208 (by decide) (fun c9 => ?_) (fun c9 => ?_)
  · have hF := hF.1 c9
    refine ph_aload_n (n := 0) X hl dX1_fair_223 rfl rfl ?_
    obtain ⟨hm1, hF⟩ := hF
    refine cg_getr 1 19 X in_X1 hP hm1 q818 dX1_fair_224 ?_
    refine ph_iload (n := 3) X hl dX1_fair_227 rfl ?_
    obtain ⟨hm2, hF⟩ := hF
    obtain ⟨hr3, hF⟩ := hF
    refine cg_iald X hP hm2 hr3 (k := x5.toNatClampNeg) rfl dX1_fair_229 ?_
    refine ph_istore X hl dX1_fair_230 (by decide) rfl (fun ls hl => ?_)
    refine ph_iinc (v := x5 + 1) (k := 3) X hl dX1_fair_232 rfl rfl (by decide) rfl (fun ls hl => ?_)
    refine lv_goto (tgt := 148) X.1 X.2.1 dX1_fair_235 (by decide) ?_
    exact hk148 _ _ _ _ _ _ _ _ hF hP (lh_sub hl [2, 3, 1, 0] rfl)
  · have hF := hF.2 c9
    refine ph_aload_n (n := 0) X hl dX1_fair_211 rfl rfl ?_
    obtain ⟨hm4, hF⟩ := hF
    refine cg_getr 1 19 X in_X1 hP hm4 q818 dX1_fair_212 ?_
    refine ph_iload (n := 3) X hl dX1_fair_215 rfl ?_
    obtain ⟨hm5, hF⟩ := hF
    obtain ⟨hr6, hF⟩ := hF
    refine cg_iald X hP hm5 hr6 (k := x5.toNatClampNeg) rfl dX1_fair_217 ?_
    refine ph_iload (n := 2) X hl dX1_fair_218 rfl ?_
    refine lv_icmp_ge (tgt := 232) X.1 X.2.1 dX1_fair_220 (by decide) (fun c8 => ?_) (fun c8 => ?_)
    · have hF := hF.1 c8
      refine ph_iinc (v := x5 + 1) (k := 3) X hl dX1_fair_232 rfl rfl (by decide) rfl (fun ls hl => ?_)
      refine lv_goto (tgt := 148) X.1 X.2.1 dX1_fair_235 (by decide) ?_
      exact hk148 _ _ _ _ _ _ _ _ hF hP (lh_sub hl [1, 2, 3, 0] rfl)
    · have hF := hF.2 c8
      refine ph_aload_n (n := 0) X hl dX1_fair_223 rfl rfl ?_
      refine cg_getr 1 19 X in_X1 hP hm4 q818 dX1_fair_224 ?_
      refine ph_iload (n := 3) X hl dX1_fair_227 rfl ?_
      obtain ⟨hr7, hF⟩ := hF
      refine cg_iald X hP hm5 hr7 (k := x5.toNatClampNeg) rfl dX1_fair_229 ?_
      refine ph_istore X hl dX1_fair_230 (by decide) rfl (fun ls hl => ?_)
      refine ph_iinc (v := x5 + 1) (k := 3) X hl dX1_fair_232 rfl rfl (by decide) rfl (fun ls hl => ?_)
      refine lv_goto (tgt := 148) X.1 X.2.1 dX1_fair_235 (by decide) ?_
      exact hk148 _ _ _ _ _ _ _ _ hF hP (lh_sub hl [2, 3, 1, 0] rfl)
set_option maxHeartbeats 2000000 in
theorem w_X1_fair_197 (X : CX p s m args c meth cX1_fair 6 (some .int) RX1 D dA ad A) (hlt : l.stackTraces = false) (hex : ∀ x ∈ c.exceptionTable.toList, False) {Xq : Nat → S → Prop} {Q : Int32 → S → Prop} {k148 : Nat → Int32 → Int32 → Int32 → S → Prop} (hk148 : ∀ (x0 : Nat) (x3 : Int32) (x4 : Int32) (x5 : Int32) (ι : S) (H : Heap) (locs : List Loc) (ls : Array Slot), k148 x0 x3 x4 x5 ι → PW D dA A s.heap ad (HS g ι) H locs → LH ad ls 6 [(0, pX x0), (3, iX x3), (4, iX x4), (5, iX x5)] → WEi p l e ({ frames := 2109, cells := 2, slots := 12, locals := 45001 } : Room) s m args below meth c D dA ad A g Q Xq 2 12 H locs 2 12 (F0 m 148 ls [])) : ∀ (x0 : Nat) (x4 : Int32) (x5 : Int32) (ι : S) (H : Heap) (locs : List Loc) (ls : Array Slot), P_X1_fair_197 g Xq Q k148 x0 x4 x5 ι → PW D dA A s.heap ad (HS g ι) H locs → LH ad ls 6 [(0, pX x0), (4, iX x4), (5, iX x5)] → WEi p l e ({ frames := 2109, cells := 2, slots := 12, locals := 45001 } : Room) s m args below meth c D dA ad A g Q Xq 2 12 H locs 2 12 (F0 m 197 ls []) := by
  intro x0 x4 x5 ι H locs ls hF hP hl
  unfold P_X1_fair_197 at hF
  refine ph_aload_n (n := 0) X hl dX1_fair_197 rfl rfl ?_
  obtain ⟨hm10, hF⟩ := hF
  refine cg_getr 1 19 X in_X1 hP hm10 q818 dX1_fair_198 ?_
  refine ph_iload (n := 2) X hl dX1_fair_201 rfl ?_
  obtain ⟨hm11, hF⟩ := hF
  obtain ⟨hr12, hF⟩ := hF
  refine cg_iald X hP hm11 hr12 (k := x5.toNatClampNeg) rfl dX1_fair_203 ?_
  refine ph_istore_n X hl dX1_fair_204 rfl (by decide) rfl (fun ls hl => ?_)
  exact w_X1_fair_205 X hlt hex hk148 _ _ _ _ _ _ _ _ hF hP (lh_sub hl [1, 0, 2, 3] rfl)
set_option maxHeartbeats 2000000 in
theorem w_X1_fair_148 (X : CX p s m args c meth cX1_fair 6 (some .int) RX1 D dA ad A) (hlt : l.stackTraces = false) (hex : ∀ x ∈ c.exceptionTable.toList, False) {Xq : Nat → S → Prop} {Q : Int32 → S → Prop} : ∀ (n : Nat) (x0 : Nat) (x3 : Int32) (x4 : Int32) (x5 : Int32) (ι : S) (H : Heap) (locs : List Loc) (ls : Array Slot), P_X1_fair_148 g Xq Q n x0 x3 x4 x5 ι → PW D dA A s.heap ad (HS g ι) H locs → LH ad ls 6 [(0, pX x0), (3, iX x3), (4, iX x4), (5, iX x5)] → WEi p l e ({ frames := 2109, cells := 2, slots := 12, locals := 45001 } : Room) s m args below meth c D dA ad A g Q Xq 2 12 H locs 2 12 (F0 m 148 ls []) := by
  intro n
  induction n with
  | zero =>
    intro x0 x3 x4 x5 ι H locs ls hF
    exact hF.elim
  | succ n ih =>
    intro x0 x3 x4 x5 ι H locs ls hF hP hl
    rw [P_X1_fair_148] at hF
    refine ph_iload (n := 3) X hl dX1_fair_148 rfl ?_
    refine ph_aload_n (n := 0) X hl dX1_fair_150 rfl rfl ?_
    obtain ⟨hm16, hF⟩ := hF
    refine cg_callVi 1 [] X hP hm16 (met_X1_sleepers l D dA ad g _ _ hF) (cwV 0 X.2.2.2.2.1 (lw_V q883 q885 qs6 q98 q886) rfl rfl rfl (by decide +kernel) ⟨Nat.le_of_ble_eq_true rfl, Nat.le_of_ble_eq_true rfl⟩) rfl hl (k8 := 1) (csi (cs0 (k := 0))) (by decide) ⟨(Nat.le_of_ble_eq_true rfl), (Nat.le_of_ble_eq_true rfl)⟩ dX1_fair_151 rfl (fun r13 ι14 H locs hF hP => ?_)
    refine lv_icmp_ge (tgt := 238) X.1 X.2.1 dX1_fair_154 (by decide) (fun c31 => ?_) (fun c31 => ?_)
    · have hF := hF.1 c31
      refine ph_iload_n (n := 1) X hl dX1_fair_238 rfl rfl ?_
      refine ph_iload (n := 2) X hl dX1_fair_239 rfl ?_
      refine lv_isub X.1 X.2.1 dX1_fair_241 ?_
      exact xg_iret X hP hF (Nat.le_of_ble_eq_true rfl) (Nat.le_of_ble_eq_true rfl) dX1_fair_242
    · have hF := hF.2 c31
      refine ph_aload_n (n := 0) X hl dX1_fair_157 rfl rfl ?_
      refine cg_getr 1 0 X in_X1 hP hm16 q799 dX1_fair_158 ?_
      obtain ⟨hm17, hF⟩ := hF
      refine cg_getrN 2 6 X in_X2 hP hm17 q538 dX1_fair_161 ?_
      refine ph_iload (n := 3) X hl dX1_fair_164 rfl ?_
      obtain ⟨hm21, hF⟩ := hF
      refine cg_callVq 17 [iX x5] X hP hm21 (met_J2_get l D dA ad g _ _ hF) (cwV 1 X.2.2.2.2.1 (lw_V q930 q778 q779 q102 q780) rfl rfl rfl (by decide +kernel) ⟨Nat.le_of_ble_eq_true rfl, Nat.le_of_ble_eq_true rfl⟩) rfl hl (k8 := 0) (cs0 (k := 0)) (by decide) ⟨(Nat.le_of_ble_eq_true rfl), (Nat.le_of_ble_eq_true rfl)⟩ dX1_fair_166 rfl (fun r18 ι19 H locs hF hv20 hP => ?_)
      obtain ⟨hm22, hF⟩ := hF
      refine cg_castSl X hP hm22 q1133 dX1_fair_169 ?_
      refine cg_v_isWoken X hP hl hm22 q1134 (k8 := 0) (cs0 (k := 0)) (by decide) ⟨Nat.le_of_ble_eq_true rfl, Nat.le_of_ble_eq_true rfl⟩ ⟨(Nat.le_of_ble_eq_true rfl), (Nat.le_of_ble_eq_true rfl)⟩ dX1_fair_172 (fun H locs hP => ?_)
      refine lv_if_ne (tgt := 181) X.1 X.2.1 dX1_fair_175 (by decide) (fun c30 => ?_) (fun c30 => ?_)
      · have hF := hF.1 c30
        refine ph_iload_n (n := 1) X hl dX1_fair_181 rfl rfl ?_
        refine lv_iconst (v := (-1)) X.1 X.2.1 dX1_fair_182 (by decide) ?_
        refine lv_icmp_eq (tgt := 197) X.1 X.2.1 dX1_fair_183 (by decide) (fun c29 => ?_) (fun c29 => ?_)
        · have hF := hF.1 c29
          exact w_X1_fair_197 X hlt hex ih _ _ _ _ _ _ _ hF hP (lh_sub hl [0, 2, 3] rfl)
        · have hF := hF.2 c29
          refine ph_aload_n (n := 0) X hl dX1_fair_186 rfl rfl ?_
          refine cg_getr 1 19 X in_X1 hP hm16 q818 dX1_fair_187 ?_
          refine ph_iload (n := 3) X hl dX1_fair_190 rfl ?_
          obtain ⟨hm26, hF⟩ := hF
          obtain ⟨hr27, hF⟩ := hF
          refine cg_iald X hP hm26 hr27 (k := x5.toNatClampNeg) rfl dX1_fair_192 ?_
          refine ph_iload_n (n := 1) X hl dX1_fair_193 rfl rfl ?_
          refine lv_icmp_le (tgt := 205) X.1 X.2.1 dX1_fair_194 (by decide) (fun c28 => ?_) (fun c28 => ?_)
          · have hF := hF.1 c28
            exact w_X1_fair_205 X hlt hex ih _ _ _ _ _ _ _ _ hF hP hl
          · have hF := hF.2 c28
            exact w_X1_fair_197 X hlt hex ih _ _ _ _ _ _ _ hF hP (lh_sub hl [0, 2, 3] rfl)
      · have hF := hF.2 c30
        refine lv_goto (tgt := 232) X.1 X.2.1 dX1_fair_178 (by decide) ?_
        refine ph_iinc (v := x5 + 1) (k := 3) X hl dX1_fair_232 rfl rfl (by decide) rfl (fun ls hl => ?_)
        refine lv_goto (tgt := 148) X.1 X.2.1 dX1_fair_235 (by decide) ?_
        exact ih _ _ _ _ _ _ _ _ hF hP (lh_sub hl [1, 2, 3, 0] rfl)
set_option maxHeartbeats 2000000 in
theorem w_X1_fair_80 (X : CX p s m args c meth cX1_fair 6 (some .int) RX1 D dA ad A) (hlt : l.stackTraces = false) (hex : ∀ x ∈ c.exceptionTable.toList, False) {Xq : Nat → S → Prop} {Q : Int32 → S → Prop} {k65 : Nat → Int32 → Int32 → Int32 → S → Prop} (hk65 : ∀ (x0 : Nat) (x1 : Int32) (x2 : Int32) (x3 : Int32) (ι : S) (H : Heap) (locs : List Loc) (ls : Array Slot), k65 x0 x1 x2 x3 ι → PW D dA A s.heap ad (HS g ι) H locs → LH ad ls 6 [(0, pX x0), (1, iX x1), (2, iX x2), (3, iX x3)] → WEi p l e ({ frames := 2109, cells := 2, slots := 12, locals := 45001 } : Room) s m args below meth c D dA ad A g Q Xq 2 12 H locs 2 12 (F0 m 65 ls [])) : ∀ (n : Nat) (x0 : Nat) (x1 : Int32) (x2 : Int32) (x3 : Int32) (x4 : Int32) (ι : S) (H : Heap) (locs : List Loc) (ls : Array Slot), P_X1_fair_80 g Xq Q k65 n x0 x1 x2 x3 x4 ι → PW D dA A s.heap ad (HS g ι) H locs → LH ad ls 6 [(0, pX x0), (1, iX x1), (2, iX x2), (3, iX x3), (4, iX x4)] → WEi p l e ({ frames := 2109, cells := 2, slots := 12, locals := 45001 } : Room) s m args below meth c D dA ad A g Q Xq 2 12 H locs 2 12 (F0 m 80 ls []) := by
  intro n
  induction n with
  | zero =>
    intro x0 x1 x2 x3 x4 ι H locs ls hF
    exact hF.elim
  | succ n ih =>
    intro x0 x1 x2 x3 x4 ι H locs ls hF hP hl
    rw [P_X1_fair_80] at hF
    refine ph_iload (n := 4) X hl dX1_fair_80 rfl ?_
    refine ph_aload_n (n := 0) X hl dX1_fair_82 rfl rfl ?_
    obtain ⟨hm35, hF⟩ := hF
    refine cg_callVi 1 [] X hP hm35 (met_X1_sleepers l D dA ad g _ _ hF) (cwV 0 X.2.2.2.2.1 (lw_V q883 q885 qs6 q98 q886) rfl rfl rfl (by decide +kernel) ⟨Nat.le_of_ble_eq_true rfl, Nat.le_of_ble_eq_true rfl⟩) rfl hl (k8 := 1) (csi (cs0 (k := 0))) (by decide) ⟨(Nat.le_of_ble_eq_true rfl), (Nat.le_of_ble_eq_true rfl)⟩ dX1_fair_83 rfl (fun r32 ι33 H locs hF hP => ?_)
    refine lv_icmp_ge (tgt := 115) X.1 X.2.1 dX1_fair_86 (by decide) (fun c47 => ?_) (fun c47 => ?_)
    · have hF := hF.1 c47
      refine ph_aload_n (n := 0) X hl dX1_fair_115 rfl rfl ?_
      refine cg_getr 1 4 X in_X1 hP hm35 q803 dX1_fair_116 ?_
      obtain ⟨hm39, hF⟩ := hF
      refine cg_callVv 5 [] X hP hm39 (met_X6_goesRound l D dA ad g _ _ hF) (cwV 0 X.2.2.2.2.1 (lw_V q1698 q1699 q1700 q123 q1701) rfl rfl rfl (by decide +kernel) ⟨Nat.le_of_ble_eq_true rfl, Nat.le_of_ble_eq_true rfl⟩) rfl hl (k8 := 0) (cs0 (k := 0)) (by decide) ⟨(Nat.le_of_ble_eq_true rfl), (Nat.le_of_ble_eq_true rfl)⟩ dX1_fair_119 rfl (fun ι37 H locs hF hP => ?_)
      refine ph_iinc (v := x3 + 1) (k := 3) X hl dX1_fair_122 rfl rfl (by decide) rfl (fun ls hl => ?_)
      refine lv_goto (tgt := 65) X.1 X.2.1 dX1_fair_125 (by decide) ?_
      exact hk65 _ _ _ _ _ _ _ _ hF hP (lh_sub hl [1, 2, 3, 0] rfl)
    · have hF := hF.2 c47
      refine ph_aload_n (n := 0) X hl dX1_fair_89 rfl rfl ?_
      refine cg_getr 1 19 X in_X1 hP hm35 q818 dX1_fair_90 ?_
      refine ph_iload (n := 4) X hl dX1_fair_93 rfl ?_
      refine ph_dup2_ir X dX1_fair_95 ?_
      obtain ⟨hm40, hF⟩ := hF
      obtain ⟨hr41, hF⟩ := hF
      refine cg_iald X hP hm40 hr41 (k := x4.toNatClampNeg) rfl dX1_fair_96 ?_
      refine ph_aload_n (n := 0) X hl dX1_fair_97 rfl rfl ?_
      refine cg_getr 1 11 X in_X1 hP hm35 q810 dX1_fair_98 ?_
      obtain ⟨hm42, hF⟩ := hF
      refine cg_getrN 6 4 X in_X7 hP hm42 q723 dX1_fair_101 ?_
      refine ph_iload (n := 4) X hl dX1_fair_104 rfl ?_
      obtain ⟨hm43, hF⟩ := hF
      obtain ⟨hr44, hF⟩ := hF
      refine cg_iald X hP hm43 hr44 (k := x4.toNatClampNeg) rfl dX1_fair_106 ?_
      refine lv_iadd X.1 X.2.1 dX1_fair_107 ?_
      obtain ⟨hr46, hF⟩ := hF
      refine cg_iast X hP hm40 hr46 (k := x4.toNatClampNeg) rfl dX1_fair_108 hF (fun H locs ι45 hP hF => ?_)
      refine ph_iinc (v := x4 + 1) (k := 4) X hl dX1_fair_109 rfl rfl (by decide) rfl (fun ls hl => ?_)
      refine lv_goto (tgt := 80) X.1 X.2.1 dX1_fair_112 (by decide) ?_
      exact ih _ _ _ _ _ _ _ _ _ hF hP (lh_sub hl [1, 2, 3, 4, 0] rfl)
set_option maxHeartbeats 2000000 in
theorem w_X1_fair_65 (X : CX p s m args c meth cX1_fair 6 (some .int) RX1 D dA ad A) (hlt : l.stackTraces = false) (hex : ∀ x ∈ c.exceptionTable.toList, False) {Xq : Nat → S → Prop} {Q : Int32 → S → Prop} : ∀ (n : Nat) (x0 : Nat) (x1 : Int32) (x2 : Int32) (x3 : Int32) (ι : S) (H : Heap) (locs : List Loc) (ls : Array Slot), P_X1_fair_65 g Xq Q n x0 x1 x2 x3 ι → PW D dA A s.heap ad (HS g ι) H locs → LH ad ls 6 [(0, pX x0), (1, iX x1), (2, iX x2), (3, iX x3)] → WEi p l e ({ frames := 2109, cells := 2, slots := 12, locals := 45001 } : Room) s m args below meth c D dA ad A g Q Xq 2 12 H locs 2 12 (F0 m 65 ls []) := by
  intro n
  induction n with
  | zero =>
    intro x0 x1 x2 x3 ι H locs ls hF
    exact hF.elim
  | succ n ih =>
    intro x0 x1 x2 x3 ι H locs ls hF hP hl
    rw [P_X1_fair_65] at hF
    refine ph_iload_n (n := 3) X hl dX1_fair_65 rfl rfl ?_
    refine ph_iload_n (n := 1) X hl dX1_fair_66 rfl rfl ?_
    refine lv_icmp_ge (tgt := 128) X.1 X.2.1 dX1_fair_67 (by decide) (fun c57 => ?_) (fun c57 => ?_)
    · have hF := hF.1 c57
      refine ph_iload_n (n := 2) X hl dX1_fair_128 rfl rfl ?_
      refine lv_iconst (v := (-1)) X.1 X.2.1 dX1_fair_129 (by decide) ?_
      refine lv_icmp_eq (tgt := 140) X.1 X.2.1 dX1_fair_130 (by decide) (fun c51 => ?_) (fun c51 => ?_)
      · have hF := hF.1 c51
        refine lv_iconst (v := (-1)) X.1 X.2.1 dX1_fair_140 (by decide) ?_
        refine ph_istore_n X hl dX1_fair_141 rfl (by decide) rfl (fun ls hl => ?_)
        refine lv_iconst (v := (-1)) X.1 X.2.1 dX1_fair_142 (by decide) ?_
        refine ph_istore X hl dX1_fair_143 (by decide) rfl (fun ls hl => ?_)
        refine lv_iconst (v := 0) X.1 X.2.1 dX1_fair_145 (by decide) ?_
        refine ph_istore X hl dX1_fair_146 (by decide) rfl (fun ls hl => ?_)
        obtain ⟨n9, hF⟩ := hF
        exact w_X1_fair_148 X hlt hex n9 _ _ _ _ _ _ _ _ hF hP (lh_sub hl [3, 2, 1, 0] rfl)
      · have hF := hF.2 c51
        refine ph_aload_n (n := 0) X hl dX1_fair_133 rfl rfl ?_
        obtain ⟨hm48, hF⟩ := hF
        refine cg_getr 1 19 X in_X1 hP hm48 q818 dX1_fair_134 ?_
        refine ph_iload_n (n := 2) X hl dX1_fair_137 rfl rfl ?_
        obtain ⟨hm49, hF⟩ := hF
        obtain ⟨hr50, hF⟩ := hF
        refine cg_iald X hP hm49 hr50 (k := x2.toNatClampNeg) rfl dX1_fair_138 ?_
        exact xg_iret X hP hF (Nat.le_of_ble_eq_true rfl) (Nat.le_of_ble_eq_true rfl) dX1_fair_139
    · have hF := hF.2 c57
      refine ph_aload_n (n := 0) X hl dX1_fair_70 rfl rfl ?_
      obtain ⟨hm52, hF⟩ := hF
      refine cg_getr 1 11 X in_X1 hP hm52 q810 dX1_fair_71 ?_
      obtain ⟨hm56, hF⟩ := hF
      refine cg_callVv 6 [] X hP hm56 (met_X7_all l D dA ad g _ _ hF) (cwV 0 X.2.2.2.2.1 (lw_V q961 q962 q963 q124 q964) rfl rfl rfl (by decide +kernel) ⟨Nat.le_of_ble_eq_true rfl, Nat.le_of_ble_eq_true rfl⟩) rfl hl (k8 := 0) (cs0 (k := 0)) (by decide) ⟨(Nat.le_of_ble_eq_true rfl), (Nat.le_of_ble_eq_true rfl)⟩ dX1_fair_74 rfl (fun ι54 H locs hF hP => ?_)
      refine lv_iconst (v := 0) X.1 X.2.1 dX1_fair_77 (by decide) ?_
      refine ph_istore X hl dX1_fair_78 (by decide) rfl (fun ls hl => ?_)
      obtain ⟨n9, hF⟩ := hF
      exact w_X1_fair_80 X hlt hex ih n9 _ _ _ _ _ _ _ _ _ hF hP (lh_sub hl [1, 2, 3, 4, 0] rfl)
set_option maxHeartbeats 2000000 in
theorem w_X1_fair_44 (X : CX p s m args c meth cX1_fair 6 (some .int) RX1 D dA ad A) (hlt : l.stackTraces = false) (hex : ∀ x ∈ c.exceptionTable.toList, False) {Xq : Nat → S → Prop} {Q : Int32 → S → Prop} : ∀ (n : Nat) (x0 : Nat) (x1 : Int32) (x2 : Int32) (x3 : Int32) (ι : S) (H : Heap) (locs : List Loc) (ls : Array Slot), P_X1_fair_44 g Xq Q n x0 x1 x2 x3 ι → PW D dA A s.heap ad (HS g ι) H locs → LH ad ls 6 [(0, pX x0), (1, iX x1), (2, iX x2), (3, iX x3)] → WEi p l e ({ frames := 2109, cells := 2, slots := 12, locals := 45001 } : Room) s m args below meth c D dA ad A g Q Xq 2 12 H locs 2 12 (F0 m 44 ls []) := by
  intro n
  induction n with
  | zero =>
    intro x0 x1 x2 x3 ι H locs ls hF
    exact hF.elim
  | succ n ih =>
    intro x0 x1 x2 x3 ι H locs ls hF hP hl
    rw [P_X1_fair_44] at hF
    refine ph_iload_n (n := 3) X hl dX1_fair_44 rfl rfl ?_
    refine lv_bipush (v := 7) X.1 X.2.1 dX1_fair_45 (by decide) ?_
    refine lv_icmp_ge (tgt := 63) X.1 X.2.1 dX1_fair_47 (by decide) (fun c62 => ?_) (fun c62 => ?_)
    · have hF := hF.1 c62
      refine lv_iconst (v := 0) X.1 X.2.1 dX1_fair_63 (by decide) ?_
      refine ph_istore_n X hl dX1_fair_64 rfl (by decide) rfl (fun ls hl => ?_)
      obtain ⟨n9, hF⟩ := hF
      exact w_X1_fair_65 X hlt hex n9 _ _ _ _ _ _ _ _ hF hP (lh_sub hl [1, 2, 3, 0] rfl)
    · have hF := hF.2 c62
      refine ph_aload_n (n := 0) X hl dX1_fair_50 rfl rfl ?_
      obtain ⟨hm58, hF⟩ := hF
      refine cg_getr 1 19 X in_X1 hP hm58 q818 dX1_fair_51 ?_
      refine ph_iload_n (n := 3) X hl dX1_fair_54 rfl rfl ?_
      refine lv_iconst (v := 0) X.1 X.2.1 dX1_fair_55 (by decide) ?_
      obtain ⟨hm59, hF⟩ := hF
      obtain ⟨hr61, hF⟩ := hF
      refine cg_iast X hP hm59 hr61 (k := x3.toNatClampNeg) rfl dX1_fair_56 hF (fun H locs ι60 hP hF => ?_)
      refine ph_iinc (v := x3 + 1) (k := 3) X hl dX1_fair_57 rfl rfl (by decide) rfl (fun ls hl => ?_)
      refine lv_goto (tgt := 44) X.1 X.2.1 dX1_fair_60 (by decide) ?_
      exact ih _ _ _ _ _ _ _ _ hF hP (lh_sub hl [1, 2, 3, 0] rfl)
set_option maxHeartbeats 2000000 in
theorem w_X1_fair_18 (X : CX p s m args c meth cX1_fair 6 (some .int) RX1 D dA ad A) (hlt : l.stackTraces = false) (hex : ∀ x ∈ c.exceptionTable.toList, False) {Xq : Nat → S → Prop} {Q : Int32 → S → Prop} : ∀ (y0 : Int32) (x0 : Nat) (x1 : Int32) (x2 : Int32) (ι : S) (H : Heap) (locs : List Loc) (ls : Array Slot), P_X1_fair_18 g Xq Q y0 x0 x1 x2 ι → PW D dA A s.heap ad (HS g ι) H locs → LH ad ls 6 [(0, pX x0), (1, iX x1), (2, iX x2)] → WEi p l e ({ frames := 2109, cells := 2, slots := 12, locals := 45001 } : Room) s m args below meth c D dA ad A g Q Xq 2 12 H locs 0 0 (F0 m 18 ls [.int y0]) := by
  intro y0 x0 x1 x2 ι H locs ls hF hP hl
  unfold P_X1_fair_18 at hF
  refine xg_callSv [iX y0] X hP hex (met_X1_there l D dA ad g hlt _ _ hF) (va_cwS 1 X.2.2.2.2.1 (lw_S q1556 q1557 q98 q1558) rfl rfl rfl (by decide +kernel) ⟨(Nat.le_of_ble_eq_true rfl), (Nat.le_of_ble_eq_true rfl)⟩) rfl hl (k8 := 0) (cs0 (k := 0)) (by decide) ⟨(Nat.le_of_ble_eq_true rfl), (Nat.le_of_ble_eq_true rfl)⟩ (Nat.le_of_ble_eq_true rfl) (Nat.le_of_ble_eq_true rfl) dX1_fair_18 rfl (fun ι64 H locs hF hP => ?_)
  refine ph_iload_n (n := 1) X hl dX1_fair_21 rfl rfl ?_
  refine lv_iconst (v := 0) X.1 X.2.1 dX1_fair_22 (by decide) ?_
  refine lv_bipush (v := 30) X.1 X.2.1 dX1_fair_23 (by decide) ?_
  refine cg_callSi [iX x1, iX 0, iX 30] X hP (met_X1_within l D dA ad g _ _ hF) (va_cwS 3 X.2.2.2.2.1 (lw_S q919 q920 q98 q921) rfl rfl rfl (by decide +kernel) ⟨Nat.le_of_ble_eq_true rfl, Nat.le_of_ble_eq_true rfl⟩) rfl hl (k8 := 0) (cs0 (k := 0)) (by decide) ⟨(Nat.le_of_ble_eq_true rfl), (Nat.le_of_ble_eq_true rfl)⟩ dX1_fair_25 rfl (fun r66 ι67 H locs hF hP => ?_)
  refine xg_callSv [iX r66] X hP hex (met_X1_right l D dA ad g hlt _ _ hF) (va_cwS 1 X.2.2.2.2.1 (lw_S q1161 q1162 q98 q1163) rfl rfl rfl (by decide +kernel) ⟨(Nat.le_of_ble_eq_true rfl), (Nat.le_of_ble_eq_true rfl)⟩) rfl hl (k8 := 0) (cs0 (k := 0)) (by decide) ⟨(Nat.le_of_ble_eq_true rfl), (Nat.le_of_ble_eq_true rfl)⟩ (Nat.le_of_ble_eq_true rfl) (Nat.le_of_ble_eq_true rfl) dX1_fair_28 rfl (fun ι70 H locs hF hP => ?_)
  refine ph_aload_n (n := 0) X hl dX1_fair_31 rfl rfl ?_
  obtain ⟨hm72, hF⟩ := hF
  refine cg_getr 1 4 X in_X1 hP hm72 q803 dX1_fair_32 ?_
  refine ph_aload_n (n := 0) X hl dX1_fair_35 rfl rfl ?_
  refine cg_getr 1 3 X in_X1 hP hm72 q802 dX1_fair_36 ?_
  obtain ⟨hm76, hF⟩ := hF
  refine cg_callVv 5 [pX (gR g x0 3)] X hP hm76 (met_X6_like l D dA ad g _ _ hF) (cwV 1 X.2.2.2.2.1 (lw_V q931 q907 q908 q123 q909) rfl rfl rfl (by decide +kernel) ⟨Nat.le_of_ble_eq_true rfl, Nat.le_of_ble_eq_true rfl⟩) rfl hl (k8 := 0) (cs0 (k := 0)) (by decide) ⟨(Nat.le_of_ble_eq_true rfl), (Nat.le_of_ble_eq_true rfl)⟩ dX1_fair_39 rfl (fun ι74 H locs hF hP => ?_)
  refine lv_iconst (v := 0) X.1 X.2.1 dX1_fair_42 (by decide) ?_
  refine ph_istore_n X hl dX1_fair_43 rfl (by decide) rfl (fun ls hl => ?_)
  obtain ⟨n9, hF⟩ := hF
  exact w_X1_fair_44 X hlt hex n9 _ _ _ _ _ _ _ _ hF hP (lh_sub hl [1, 2, 3, 0] rfl)
set_option maxHeartbeats 2000000 in
theorem w_X1_fair_17 (X : CX p s m args c meth cX1_fair 6 (some .int) RX1 D dA ad A) (hlt : l.stackTraces = false) (hex : ∀ x ∈ c.exceptionTable.toList, False) {Xq : Nat → S → Prop} {Q : Int32 → S → Prop} : ∀ (x0 : Nat) (x1 : Int32) (x2 : Int32) (ι : S) (H : Heap) (locs : List Loc) (ls : Array Slot), P_X1_fair_17 g Xq Q x0 x1 x2 ι → PW D dA A s.heap ad (HS g ι) H locs → LH ad ls 6 [(0, pX x0), (1, iX x1), (2, iX x2)] → WEi p l e ({ frames := 2109, cells := 2, slots := 12, locals := 45001 } : Room) s m args below meth c D dA ad A g Q Xq 2 12 H locs 0 0 (F0 m 17 ls []) := by
  intro x0 x1 x2 ι H locs ls hF hP hl
  unfold P_X1_fair_17 at hF
  refine lv_iconst (v := 0) X.1 X.2.1 dX1_fair_17 (by decide) ?_
  exact w_X1_fair_18 X hlt hex _ _ _ _ _ _ _ _ hF hP hl
set_option maxHeartbeats 2000000 in
theorem met_X1_fair (l : Launch) (D : va_G) (dA : Nat → ClassId) (ad : Nat → Nat) (g : GT) (hlt : l.stackTraces = false) (ι : S) (sz : Nat) {a0 : Nat} {a1 : Int32} {a2 : Int32} {Q : Int32 → S → Prop} {Xq : Nat → S → Prop} (hF : P_X1_fair g Xq a0 a1 a2 ι Q) : CEi l yX1_fair cX1_fair 6 .int ({ frames := 2109, cells := 2, slots := 12, locals := 45001 } : Room) D dA ad g ι sz [pX a0, iX a1, iX a2] Q Xq 2 12 := by
  unfold P_X1_fair at hF
  refine xg_enter [pX a0, iX a1, iX a2] (Qc := fun A => va_Qi (GQi g Q) (CB D dA ad A) A) (XC := fun A => XCC D dA ad g A Xq) (by decide +kernel) (Nat.le_of_ble_eq_true rfl) ?_
  intro p e s m args below meth c A ls X hP hl hex
  have hl : LH ad ls 6 [(0, pX a0), (1, iX a1), (2, iX a2)] := hl
  refine ph_iload_n (n := 2) X hl dX1_fair_0 rfl rfl ?_
  refine lv_iconst (v := (-1)) X.1 X.2.1 dX1_fair_1 (by decide) ?_
  refine lv_icmp_lt (tgt := 17) X.1 X.2.1 dX1_fair_2 (by decide) (fun c82 => ?_) (fun c82 => ?_)
  · have hF := hF.1 c82
    exact w_X1_fair_17 X hlt hex _ _ _ _ _ _ _ hF hP hl
  · have hF := hF.2 c82
    refine ph_iload_n (n := 2) X hl dX1_fair_5 rfl rfl ?_
    refine ph_aload_n (n := 0) X hl dX1_fair_6 rfl rfl ?_
    obtain ⟨hm80, hF⟩ := hF
    refine cg_callVi 1 [] X hP hm80 (met_X1_sleepers l D dA ad g _ _ hF) (cwV 0 X.2.2.2.2.1 (lw_V q883 q885 qs6 q98 q886) rfl rfl rfl (by decide +kernel) ⟨Nat.le_of_ble_eq_true rfl, Nat.le_of_ble_eq_true rfl⟩) rfl hl (k8 := 1) (csi (cs0 (k := 0))) (by decide) ⟨(Nat.le_of_ble_eq_true rfl), (Nat.le_of_ble_eq_true rfl)⟩ dX1_fair_7 rfl (fun r77 ι78 H locs hF hP => ?_)
    refine lv_icmp_ge (tgt := 17) X.1 X.2.1 dX1_fair_10 (by decide) (fun c81 => ?_) (fun c81 => ?_)
    · have hF := hF.1 c81
      exact w_X1_fair_17 X hlt hex _ _ _ _ _ _ _ hF hP hl
    · have hF := hF.2 c81
      refine lv_iconst (v := 1) X.1 X.2.1 dX1_fair_13 (by decide) ?_
      refine lv_goto (tgt := 18) X.1 X.2.1 dX1_fair_14 (by decide) ?_
      exact w_X1_fair_18 X hlt hex _ _ _ _ _ _ _ _ hF hP hl
def P_X1_see (g : GT) (Xq : Nat → S → Prop) (a0 : Nat) (a1 : Int32) (a2 : Int32) (a3 : Int32) (ι : S) (Q : Int32 → S → Prop) : Prop := (gK g a0 = 2 ∧ (P_X1_sleeperAt g Xq a0 a1 ι (fun r1 ι2 => (gK g (gR g a0 1) = 5 ∧ (((ι2 (gR g a0 1) 7) = 8 → (P_X1_refuses g a0 2 ι2 (fun r6 ι7 => (Q r6 ι7)))) ∧ (¬ (ι2 (gR g a0 1) 7) = 8 → (P_X1_within g a3 0 1 ι2 (fun r9 ι10 => ((r9 = 0 → (P_X1_refuses g a0 2 ι10 (fun r12 ι13 => (Q r12 ι13)))) ∧ (¬ r9 = 0 → (P_X1_within g a2 0 600 ι10 (fun r15 ι16 => ((r15 = 0 → (P_X1_refuses g a0 2 ι16 (fun r18 ι19 => (Q r18 ι19)))) ∧ (¬ r15 = 0 → (isSl (gK g r1) ∧ ((¬ (slTurned (gK g r1)) = 0 → (gK g (gR g (gR g a0 1) 2) = 100 ∧ (vp_in (ι2 (gR g a0 1) 7) (gL g (gR g (gR g a0 1) 2)) ∧ (∀ ι26, ι26 = up2 ι16 (gR g (gR g a0 1) 2) ((ι2 (gR g a0 1) 7).toNatClampNeg) a1 → (gK g (gR g (gR g a0 1) 3) = 100 ∧ (vp_in (ι2 (gR g a0 1) 7) (gL g (gR g (gR g a0 1) 3)) ∧ (∀ ι29, ι29 = up2 ι26 (gR g (gR g a0 1) 3) ((ι2 (gR g a0 1) 7).toNatClampNeg) a2 → (gK g (gR g (gR g a0 1) 4) = 100 ∧ (vp_in (ι2 (gR g a0 1) 7) (gL g (gR g (gR g a0 1) 4)) ∧ (∀ ι32, ι32 = up2 ι29 (gR g (gR g a0 1) 4) ((ι2 (gR g a0 1) 7).toNatClampNeg) a3 → (∀ ι34, ι34 = up2 ι32 (gR g a0 1) 7 ((ι32 (gR g a0 1) 7) + 1) → (Q (ι34 (gR g a0 1) 7) ι34)))))))))))) ∧ ((slTurned (gK g r1)) = 0 → (P_X1_refuses g a0 2 ι16 (fun r35 ι36 => (Q r35 ι36))))))))))))))))))))
set_option maxHeartbeats 2000000 in
theorem met_X1_see (l : Launch) (D : va_G) (dA : Nat → ClassId) (ad : Nat → Nat) (g : GT) (hlt : l.stackTraces = false) (ι : S) (sz : Nat) {a0 : Nat} {a1 : Int32} {a2 : Int32} {a3 : Int32} {Q : Int32 → S → Prop} {Xq : Nat → S → Prop} (hF : P_X1_see g Xq a0 a1 a2 a3 ι Q) : CEi l yX1_see cX1_see 6 .int ({ frames := 8, cells := 1, slots := 6, locals := 141 } : Room) D dA ad g ι sz [pX a0, iX a1, iX a2, iX a3] Q Xq 1 6 := by
  unfold P_X1_see at hF
  refine xg_enter [pX a0, iX a1, iX a2, iX a3] (Qc := fun A => va_Qi (GQi g Q) (CB D dA ad A) A) (XC := fun A => XCC D dA ad g A Xq) (by decide +kernel) (Nat.le_of_ble_eq_true rfl) ?_
  intro p e s m args below meth c A ls X hP hl hex
  have hl : LH ad ls 6 [(0, pX a0), (1, iX a1), (2, iX a2), (3, iX a3)] := hl
  refine ph_aload_n (n := 0) X hl dX1_see_0 rfl rfl ?_
  refine ph_iload_n (n := 1) X hl dX1_see_1 rfl rfl ?_
  obtain ⟨hm4, hF⟩ := hF
  refine xg_callVq 1 [iX a1] X hP hex hm4 (met_X1_sleeperAt l D dA ad g hlt _ _ hF) (cwV 1 X.2.2.2.2.1 (lw_V q1581 q1583 qs40 q98 q1584) rfl rfl rfl (by decide +kernel) ⟨(Nat.le_of_ble_eq_true rfl), (Nat.le_of_ble_eq_true rfl)⟩) rfl hl (k8 := 0) (cs0 (k := 0)) (by decide) ⟨(Nat.le_of_ble_eq_true rfl), (Nat.le_of_ble_eq_true rfl)⟩ (Nat.le_of_ble_eq_true rfl) (Nat.le_of_ble_eq_true rfl) dX1_see_2 rfl (fun r1 ι2 H locs hF hv3 hP => ?_)
  refine ph_astore X hl dX1_see_5 (by decide) rfl (fun ls hl => ?_)
  refine ph_aload_n (n := 1) X hl dX1_see_7 rfl rfl ?_
  refine cg_getr 1 1 X in_X1 hP hm4 q800 dX1_see_8 ?_
  obtain ⟨hm5, hF⟩ := hF
  refine cg_getiN 4 7 X in_X5 hP hm5 q691 dX1_see_11 ?_
  refine ph_istore X hl dX1_see_14 (by decide) rfl (fun ls hl => ?_)
  refine ph_iload (n := 0) X hl dX1_see_16 rfl ?_
  refine lv_bipush (v := 8) X.1 X.2.1 dX1_see_18 (by decide) ?_
  refine lv_icmp_eq (tgt := 51) X.1 X.2.1 dX1_see_20 (by decide) (fun c41 => ?_) (fun c41 => ?_)
  · have hF := hF.1 c41
    refine ph_aload_n (n := 2) X hl dX1_see_51 rfl rfl ?_
    refine lv_iconst (v := 2) X.1 X.2.1 dX1_see_52 (by decide) ?_
    refine cg_callVi 1 [iX 2] X hP hm4 (met_X1_refuses l D dA ad g _ _ hF) (cwV 1 X.2.2.2.2.1 (lw_V q888 q890 qs7 q98 q891) rfl rfl rfl (by decide +kernel) ⟨Nat.le_of_ble_eq_true rfl, Nat.le_of_ble_eq_true rfl⟩) rfl hl (k8 := 0) (cs0 (k := 0)) (by decide) ⟨(Nat.le_of_ble_eq_true rfl), (Nat.le_of_ble_eq_true rfl)⟩ dX1_see_53 rfl (fun r6 ι7 H locs hF hP => ?_)
    exact xg_iret X hP hF (Nat.le_of_ble_eq_true rfl) (Nat.le_of_ble_eq_true rfl) dX1_see_56
  · have hF := hF.2 c41
    refine ph_iload_n (n := 5) X hl dX1_see_23 rfl rfl ?_
    refine lv_iconst (v := 0) X.1 X.2.1 dX1_see_24 (by decide) ?_
    refine lv_iconst (v := 1) X.1 X.2.1 dX1_see_25 (by decide) ?_
    refine cg_callSi [iX a3, iX 0, iX 1] X hP (met_X1_within l D dA ad g _ _ hF) (va_cwS 3 X.2.2.2.2.1 (lw_S q919 q920 q98 q921) rfl rfl rfl (by decide +kernel) ⟨Nat.le_of_ble_eq_true rfl, Nat.le_of_ble_eq_true rfl⟩) rfl hl (k8 := 0) (cs0 (k := 0)) (by decide) ⟨(Nat.le_of_ble_eq_true rfl), (Nat.le_of_ble_eq_true rfl)⟩ dX1_see_26 rfl (fun r9 ι10 H locs hF hP => ?_)
    refine lv_if_eq (tgt := 51) X.1 X.2.1 dX1_see_29 (by decide) (fun c40 => ?_) (fun c40 => ?_)
    · have hF := hF.1 c40
      refine ph_aload_n (n := 2) X hl dX1_see_51 rfl rfl ?_
      refine lv_iconst (v := 2) X.1 X.2.1 dX1_see_52 (by decide) ?_
      refine cg_callVi 1 [iX 2] X hP hm4 (met_X1_refuses l D dA ad g _ _ hF) (cwV 1 X.2.2.2.2.1 (lw_V q888 q890 qs7 q98 q891) rfl rfl rfl (by decide +kernel) ⟨Nat.le_of_ble_eq_true rfl, Nat.le_of_ble_eq_true rfl⟩) rfl hl (k8 := 0) (cs0 (k := 0)) (by decide) ⟨(Nat.le_of_ble_eq_true rfl), (Nat.le_of_ble_eq_true rfl)⟩ dX1_see_53 rfl (fun r12 ι13 H locs hF hP => ?_)
      exact xg_iret X hP hF (Nat.le_of_ble_eq_true rfl) (Nat.le_of_ble_eq_true rfl) dX1_see_56
    · have hF := hF.2 c40
      refine ph_iload_n (n := 4) X hl dX1_see_32 rfl rfl ?_
      refine lv_iconst (v := 0) X.1 X.2.1 dX1_see_33 (by decide) ?_
      refine lv_sipush (v := 600) X.1 X.2.1 dX1_see_34 (by decide) ?_
      refine cg_callSi [iX a2, iX 0, iX 600] X hP (met_X1_within l D dA ad g _ _ hF) (va_cwS 3 X.2.2.2.2.1 (lw_S q919 q920 q98 q921) rfl rfl rfl (by decide +kernel) ⟨Nat.le_of_ble_eq_true rfl, Nat.le_of_ble_eq_true rfl⟩) rfl hl (k8 := 0) (cs0 (k := 0)) (by decide) ⟨(Nat.le_of_ble_eq_true rfl), (Nat.le_of_ble_eq_true rfl)⟩ dX1_see_37 rfl (fun r15 ι16 H locs hF hP => ?_)
      refine lv_if_eq (tgt := 51) X.1 X.2.1 dX1_see_40 (by decide) (fun c39 => ?_) (fun c39 => ?_)
      · have hF := hF.1 c39
        refine ph_aload_n (n := 2) X hl dX1_see_51 rfl rfl ?_
        refine lv_iconst (v := 2) X.1 X.2.1 dX1_see_52 (by decide) ?_
        refine cg_callVi 1 [iX 2] X hP hm4 (met_X1_refuses l D dA ad g _ _ hF) (cwV 1 X.2.2.2.2.1 (lw_V q888 q890 qs7 q98 q891) rfl rfl rfl (by decide +kernel) ⟨Nat.le_of_ble_eq_true rfl, Nat.le_of_ble_eq_true rfl⟩) rfl hl (k8 := 0) (cs0 (k := 0)) (by decide) ⟨(Nat.le_of_ble_eq_true rfl), (Nat.le_of_ble_eq_true rfl)⟩ dX1_see_53 rfl (fun r18 ι19 H locs hF hP => ?_)
        exact xg_iret X hP hF (Nat.le_of_ble_eq_true rfl) (Nat.le_of_ble_eq_true rfl) dX1_see_56
      · have hF := hF.2 c39
        refine ph_aload (n := 1) X hl dX1_see_43 rfl ?_
        obtain ⟨hm24, hF⟩ := hF
        refine cg_v_isTurned X hP hl hm24 q1608 (k8 := 0) (cs0 (k := 0)) (by decide) ⟨Nat.le_of_ble_eq_true rfl, Nat.le_of_ble_eq_true rfl⟩ ⟨(Nat.le_of_ble_eq_true rfl), (Nat.le_of_ble_eq_true rfl)⟩ dX1_see_45 (fun H locs hP => ?_)
        refine lv_if_ne (tgt := 57) X.1 X.2.1 dX1_see_48 (by decide) (fun c38 => ?_) (fun c38 => ?_)
        · have hF := hF.1 c38
          refine ph_aload_n (n := 2) X hl dX1_see_57 rfl rfl ?_
          refine cg_getr 1 1 X in_X1 hP hm4 q800 dX1_see_58 ?_
          refine cg_getrN 4 2 X in_X5 hP hm5 q681 dX1_see_61 ?_
          refine ph_iload (n := 0) X hl dX1_see_64 rfl ?_
          refine ph_iload_n (n := 3) X hl dX1_see_66 rfl rfl ?_
          obtain ⟨hm25, hF⟩ := hF
          obtain ⟨hr27, hF⟩ := hF
          refine cg_iast X hP hm25 hr27 (k := (ι2 (gR g a0 1) 7).toNatClampNeg) rfl dX1_see_67 hF (fun H locs ι26 hP hF => ?_)
          refine ph_aload_n (n := 2) X hl dX1_see_68 rfl rfl ?_
          refine cg_getr 1 1 X in_X1 hP hm4 q800 dX1_see_69 ?_
          refine cg_getrN 4 3 X in_X5 hP hm5 q683 dX1_see_72 ?_
          refine ph_iload (n := 0) X hl dX1_see_75 rfl ?_
          refine ph_iload_n (n := 4) X hl dX1_see_77 rfl rfl ?_
          obtain ⟨hm28, hF⟩ := hF
          obtain ⟨hr30, hF⟩ := hF
          refine cg_iast X hP hm28 hr30 (k := (ι2 (gR g a0 1) 7).toNatClampNeg) rfl dX1_see_78 hF (fun H locs ι29 hP hF => ?_)
          refine ph_aload_n (n := 2) X hl dX1_see_79 rfl rfl ?_
          refine cg_getr 1 1 X in_X1 hP hm4 q800 dX1_see_80 ?_
          refine cg_getrN 4 4 X in_X5 hP hm5 q685 dX1_see_83 ?_
          refine ph_iload (n := 0) X hl dX1_see_86 rfl ?_
          refine ph_iload_n (n := 5) X hl dX1_see_88 rfl rfl ?_
          obtain ⟨hm31, hF⟩ := hF
          obtain ⟨hr33, hF⟩ := hF
          refine cg_iast X hP hm31 hr33 (k := (ι2 (gR g a0 1) 7).toNatClampNeg) rfl dX1_see_89 hF (fun H locs ι32 hP hF => ?_)
          refine ph_aload_n (n := 2) X hl dX1_see_90 rfl rfl ?_
          refine cg_getr 1 1 X in_X1 hP hm4 q800 dX1_see_91 ?_
          refine ph_dup_r X dX1_see_94 ?_
          refine cg_getiN 4 7 X in_X5 hP hm5 q691 dX1_see_95 ?_
          refine lv_iconst (v := 1) X.1 X.2.1 dX1_see_98 (by decide) ?_
          refine lv_iadd X.1 X.2.1 dX1_see_99 ?_
          refine cg_putiN 4 7 X in_X5 tyX5 tyX5_ok nmX5 hP hm5 q691 dX1_see_100 hF (fun H locs ι34 hP hF => ?_)
          refine ph_aload_n (n := 2) X hl dX1_see_103 rfl rfl ?_
          refine cg_getr 1 1 X in_X1 hP hm4 q800 dX1_see_104 ?_
          refine cg_getiN 4 7 X in_X5 hP hm5 q691 dX1_see_107 ?_
          exact xg_iret X hP hF (Nat.le_of_ble_eq_true rfl) (Nat.le_of_ble_eq_true rfl) dX1_see_110
        · have hF := hF.2 c38
          refine ph_aload_n (n := 2) X hl dX1_see_51 rfl rfl ?_
          refine lv_iconst (v := 2) X.1 X.2.1 dX1_see_52 (by decide) ?_
          refine cg_callVi 1 [iX 2] X hP hm4 (met_X1_refuses l D dA ad g _ _ hF) (cwV 1 X.2.2.2.2.1 (lw_V q888 q890 qs7 q98 q891) rfl rfl rfl (by decide +kernel) ⟨Nat.le_of_ble_eq_true rfl, Nat.le_of_ble_eq_true rfl⟩) rfl hl (k8 := 0) (cs0 (k := 0)) (by decide) ⟨(Nat.le_of_ble_eq_true rfl), (Nat.le_of_ble_eq_true rfl)⟩ dX1_see_53 rfl (fun r35 ι36 H locs hF hP => ?_)
          exact xg_iret X hP hF (Nat.le_of_ble_eq_true rfl) (Nat.le_of_ble_eq_true rfl) dX1_see_56
def P_X1_without (g : GT) (Xq : Nat → S → Prop) (a0 : Nat) (a1 : Int32) (ι : S) (Q : Int32 → S → Prop) : Prop := (gK g a0 = 2 ∧ (P_X1_sleeperAt g Xq a0 a1 ι (fun r1 ι2 => (gK g (gR g a0 10) = 7 ∧ (P_X7_all g (gR g a0 10) ι2 (fun ι6 => (P_X7_wokenAll g (gR g a0 10) ι6 (fun r9 ι10 => (gK g (gR g (gR g a0 10) 4) = 100 ∧ (vp_in a1 (gL g (gR g (gR g a0 10) 4)) ∧ (gK g (gR g a0 4) = 6 ∧ (P_X6_like g (gR g a0 4) (gR g a0 3) ι10 (fun ι15 => (gK g (gR g a0 3) = 6 ∧ (P_X6_placeOf g (gR g a0 3) a1 ι15 (fun r18 ι19 => (P_X6_leaves g (gR g a0 4) r18 ι19 (fun ι23 => (gK g (gR g a0 0) = 3 ∧ (P_X2_isFree g (gR g a0 0) a1 ι23 (fun r25 ι26 => (isB r25 ∧ (∀ ι29, ι29 = up2 ι26 (gR g a0 4) 7 r25 → ((¬ (ι29 (gR g a0 3) 4) = a1 → (P_X1_tries g a0 ι29 (fun r31 ι32 => (Q ((r9 - (ι10 (gR g (gR g a0 10) 4) a1.toNatClampNeg)) - r31) ι32)))) ∧ ((ι29 (gR g a0 3) 4) = a1 → (∀ ι34, ι34 = up2 ι29 (gR g a0 4) 4 (-1) → (∀ ι35, ι35 = up2 ι34 (gR g a0 4) 5 0 → (P_X1_tries g a0 ι35 (fun r36 ι37 => (Q ((r9 - (ι10 (gR g (gR g a0 10) 4) a1.toNatClampNeg)) - r36) ι37))))))))))))))))))))))))))))))
set_option maxHeartbeats 2000000 in
theorem met_X1_without (l : Launch) (D : va_G) (dA : Nat → ClassId) (ad : Nat → Nat) (g : GT) (hlt : l.stackTraces = false) (ι : S) (sz : Nat) {a0 : Nat} {a1 : Int32} {Q : Int32 → S → Prop} {Xq : Nat → S → Prop} (hF : P_X1_without g Xq a0 a1 ι Q) : CEi l yX1_without cX1_without 3 .int ({ frames := 2110, cells := 1, slots := 6, locals := 45021 } : Room) D dA ad g ι sz [pX a0, iX a1] Q Xq 1 6 := by
  unfold P_X1_without at hF
  refine xg_enter [pX a0, iX a1] (Qc := fun A => va_Qi (GQi g Q) (CB D dA ad A) A) (XC := fun A => XCC D dA ad g A Xq) (by decide +kernel) (Nat.le_of_ble_eq_true rfl) ?_
  intro p e s m args below meth c A ls X hP hl hex
  have hl : LH ad ls 3 [(0, pX a0), (1, iX a1)] := hl
  refine ph_aload_n (n := 0) X hl dX1_without_0 rfl rfl ?_
  refine ph_iload_n (n := 1) X hl dX1_without_1 rfl rfl ?_
  obtain ⟨hm4, hF⟩ := hF
  refine xg_callVq 1 [iX a1] X hP hex hm4 (met_X1_sleeperAt l D dA ad g hlt _ _ hF) (cwV 1 X.2.2.2.2.1 (lw_V q1581 q1583 qs40 q98 q1584) rfl rfl rfl (by decide +kernel) ⟨(Nat.le_of_ble_eq_true rfl), (Nat.le_of_ble_eq_true rfl)⟩) rfl hl (k8 := 0) (cs0 (k := 0)) (by decide) ⟨(Nat.le_of_ble_eq_true rfl), (Nat.le_of_ble_eq_true rfl)⟩ (Nat.le_of_ble_eq_true rfl) (Nat.le_of_ble_eq_true rfl) dX1_without_2 rfl (fun r1 ι2 H locs hF hv3 hP => ?_)
  refine ph_pop_r X dX1_without_5 ?_
  refine ph_aload_n (n := 0) X hl dX1_without_6 rfl rfl ?_
  refine cg_getr 1 10 X in_X1 hP hm4 q809 dX1_without_7 ?_
  obtain ⟨hm8, hF⟩ := hF
  refine cg_callVv 6 [] X hP hm8 (met_X7_all l D dA ad g _ _ hF) (cwV 0 X.2.2.2.2.1 (lw_V q961 q962 q963 q124 q964) rfl rfl rfl (by decide +kernel) ⟨Nat.le_of_ble_eq_true rfl, Nat.le_of_ble_eq_true rfl⟩) rfl hl (k8 := 0) (cs0 (k := 0)) (by decide) ⟨(Nat.le_of_ble_eq_true rfl), (Nat.le_of_ble_eq_true rfl)⟩ dX1_without_10 rfl (fun ι6 H locs hF hP => ?_)
  refine ph_aload_n (n := 0) X hl dX1_without_13 rfl rfl ?_
  refine cg_getr 1 10 X in_X1 hP hm4 q809 dX1_without_14 ?_
  refine cg_callVi 6 [] X hP hm8 (met_X7_wokenAll l D dA ad g _ _ hF) (cwV 0 X.2.2.2.2.1 (lw_V q1117 q1118 q1119 q124 q1120) rfl rfl rfl (by decide +kernel) ⟨Nat.le_of_ble_eq_true rfl, Nat.le_of_ble_eq_true rfl⟩) rfl hl (k8 := 0) (cs0 (k := 0)) (by decide) ⟨(Nat.le_of_ble_eq_true rfl), (Nat.le_of_ble_eq_true rfl)⟩ dX1_without_17 rfl (fun r9 ι10 H locs hF hP => ?_)
  refine ph_aload_n (n := 0) X hl dX1_without_20 rfl rfl ?_
  refine cg_getr 1 10 X in_X1 hP hm4 q809 dX1_without_21 ?_
  refine cg_getrN 6 4 X in_X7 hP hm8 q723 dX1_without_24 ?_
  refine ph_iload_n (n := 1) X hl dX1_without_27 rfl rfl ?_
  obtain ⟨hm12, hF⟩ := hF
  obtain ⟨hr13, hF⟩ := hF
  refine cg_iald X hP hm12 hr13 (k := a1.toNatClampNeg) rfl dX1_without_28 ?_
  refine lv_isub X.1 X.2.1 dX1_without_29 ?_
  refine ph_istore_n X hl dX1_without_30 rfl (by decide) rfl (fun ls hl => ?_)
  refine ph_aload_n (n := 1) X hl dX1_without_31 rfl rfl ?_
  refine cg_getr 1 4 X in_X1 hP hm4 q803 dX1_without_32 ?_
  refine ph_aload_n (n := 1) X hl dX1_without_35 rfl rfl ?_
  refine cg_getr 1 3 X in_X1 hP hm4 q802 dX1_without_36 ?_
  obtain ⟨hm17, hF⟩ := hF
  refine cg_callVv 5 [pX (gR g a0 3)] X hP hm17 (met_X6_like l D dA ad g _ _ hF) (cwV 1 X.2.2.2.2.1 (lw_V q931 q907 q908 q123 q909) rfl rfl rfl (by decide +kernel) ⟨Nat.le_of_ble_eq_true rfl, Nat.le_of_ble_eq_true rfl⟩) rfl hl (k8 := 0) (cs0 (k := 0)) (by decide) ⟨(Nat.le_of_ble_eq_true rfl), (Nat.le_of_ble_eq_true rfl)⟩ dX1_without_39 rfl (fun ι15 H locs hF hP => ?_)
  refine ph_aload_n (n := 1) X hl dX1_without_42 rfl rfl ?_
  refine cg_getr 1 4 X in_X1 hP hm4 q803 dX1_without_43 ?_
  refine ph_aload_n (n := 1) X hl dX1_without_46 rfl rfl ?_
  refine cg_getr 1 3 X in_X1 hP hm4 q802 dX1_without_47 ?_
  refine ph_iload_n (n := 2) X hl dX1_without_50 rfl rfl ?_
  obtain ⟨hm21, hF⟩ := hF
  refine cg_callVi 5 [iX a1] X hP hm21 (met_X6_placeOf l D dA ad g _ _ hF) (cwV 1 X.2.2.2.2.1 (lw_V q1600 q1003 q1004 q123 q1005) rfl rfl rfl (by decide +kernel) ⟨Nat.le_of_ble_eq_true rfl, Nat.le_of_ble_eq_true rfl⟩) rfl hl (k8 := 1) (csr (cs0 (k := 0))) (by decide) ⟨(Nat.le_of_ble_eq_true rfl), (Nat.le_of_ble_eq_true rfl)⟩ dX1_without_51 rfl (fun r18 ι19 H locs hF hP => ?_)
  refine cg_callVv 5 [iX r18] X hP hm17 (met_X6_leaves l D dA ad g _ _ hF) (cwV 1 X.2.2.2.2.1 (lw_V q1735 q1736 q1737 q123 q1738) rfl rfl rfl (by decide +kernel) ⟨Nat.le_of_ble_eq_true rfl, Nat.le_of_ble_eq_true rfl⟩) rfl hl (k8 := 0) (cs0 (k := 0)) (by decide) ⟨(Nat.le_of_ble_eq_true rfl), (Nat.le_of_ble_eq_true rfl)⟩ dX1_without_54 rfl (fun ι23 H locs hF hP => ?_)
  refine ph_aload_n (n := 1) X hl dX1_without_57 rfl rfl ?_
  refine cg_getr 1 4 X in_X1 hP hm4 q803 dX1_without_58 ?_
  refine ph_aload_n (n := 1) X hl dX1_without_61 rfl rfl ?_
  refine cg_getr 1 0 X in_X1 hP hm4 q799 dX1_without_62 ?_
  refine ph_iload_n (n := 2) X hl dX1_without_65 rfl rfl ?_
  obtain ⟨hm28, hF⟩ := hF
  refine cg_callVi 2 [iX a1] X hP hm28 (met_X2_isFree l D dA ad g _ _ hF) (cwV 1 X.2.2.2.2.1 (lw_V q1739 q793 q794 q99 q795) rfl rfl rfl (by decide +kernel) ⟨Nat.le_of_ble_eq_true rfl, Nat.le_of_ble_eq_true rfl⟩) rfl hl (k8 := 1) (csr (cs0 (k := 0))) (by decide) ⟨(Nat.le_of_ble_eq_true rfl), (Nat.le_of_ble_eq_true rfl)⟩ dX1_without_66 rfl (fun r25 ι26 H locs hF hP => ?_)
  obtain ⟨hb30, hF⟩ := hF
  refine cg_putzN 5 7 X in_X6 tyX6 tyX6_ok nmX6 hP hm17 q600 dX1_without_69 hb30 hF (fun H locs ι29 hP hF => ?_)
  refine ph_aload_n (n := 1) X hl dX1_without_72 rfl rfl ?_
  refine cg_getr 1 3 X in_X1 hP hm4 q802 dX1_without_73 ?_
  refine cg_getiN 5 4 X in_X6 hP hm21 q593 dX1_without_76 ?_
  refine ph_iload_n (n := 2) X hl dX1_without_79 rfl rfl ?_
  refine lv_icmp_ne (tgt := 99) X.1 X.2.1 dX1_without_80 (by decide) (fun c39 => ?_) (fun c39 => ?_)
  · have hF := hF.1 c39
    refine ph_iload_n (n := 0) X hl dX1_without_99 rfl rfl ?_
    refine ph_aload_n (n := 1) X hl dX1_without_100 rfl rfl ?_
    refine cg_callVi 1 [] X hP hm4 (met_X1_tries l D dA ad g _ _ hF) (cwV 0 X.2.2.2.2.1 (lw_V q957 q959 qs13 q98 q960) rfl rfl rfl (by decide +kernel) ⟨Nat.le_of_ble_eq_true rfl, Nat.le_of_ble_eq_true rfl⟩) rfl hl (k8 := 1) (csi (cs0 (k := 0))) (by decide) ⟨(Nat.le_of_ble_eq_true rfl), (Nat.le_of_ble_eq_true rfl)⟩ dX1_without_101 rfl (fun r31 ι32 H locs hF hP => ?_)
    refine lv_isub X.1 X.2.1 dX1_without_104 ?_
    exact xg_iret X hP hF (Nat.le_of_ble_eq_true rfl) (Nat.le_of_ble_eq_true rfl) dX1_without_105
  · have hF := hF.2 c39
    refine ph_aload_n (n := 1) X hl dX1_without_83 rfl rfl ?_
    refine cg_getr 1 4 X in_X1 hP hm4 q803 dX1_without_84 ?_
    refine lv_iconst (v := (-1)) X.1 X.2.1 dX1_without_87 (by decide) ?_
    refine cg_putiN 5 4 X in_X6 tyX6 tyX6_ok nmX6 hP hm17 q593 dX1_without_88 hF (fun H locs ι34 hP hF => ?_)
    refine ph_aload_n (n := 1) X hl dX1_without_91 rfl rfl ?_
    refine cg_getr 1 4 X in_X1 hP hm4 q803 dX1_without_92 ?_
    refine lv_iconst (v := 0) X.1 X.2.1 dX1_without_95 (by decide) ?_
    refine cg_putiN 5 5 X in_X6 tyX6 tyX6_ok nmX6 hP hm17 q596 dX1_without_96 hF (fun H locs ι35 hP hF => ?_)
    refine ph_iload_n (n := 0) X hl dX1_without_99 rfl rfl ?_
    refine ph_aload_n (n := 1) X hl dX1_without_100 rfl rfl ?_
    refine cg_callVi 1 [] X hP hm4 (met_X1_tries l D dA ad g _ _ hF) (cwV 0 X.2.2.2.2.1 (lw_V q957 q959 qs13 q98 q960) rfl rfl rfl (by decide +kernel) ⟨Nat.le_of_ble_eq_true rfl, Nat.le_of_ble_eq_true rfl⟩) rfl hl (k8 := 1) (csi (cs0 (k := 0))) (by decide) ⟨(Nat.le_of_ble_eq_true rfl), (Nat.le_of_ble_eq_true rfl)⟩ dX1_without_101 rfl (fun r36 ι37 H locs hF hP => ?_)
    refine lv_isub X.1 X.2.1 dX1_without_104 ?_
    exact xg_iret X hP hF (Nat.le_of_ble_eq_true rfl) (Nat.le_of_ble_eq_true rfl) dX1_without_105
def P_X1_year_56 (g : GT) (Xq : Nat → S → Prop) (Q : Int32 → S → Prop) (k47 : Nat → Int32 → Int32 → Int32 → Int32 → Int32 → Int32 → S → Prop) : Nat → Nat → Int32 → Int32 → Int32 → Int32 → Int32 → Int32 → Int32 → S → Prop
  | 0, _, _, _, _, _, _, _, _, _ => False
  | n + 1, x0, x2, x3, x4, x5, x6, x7, x8, ι => (gK g x0 = 2 ∧ (P_X1_sleepers g x0 ι (fun r1 ι2 => ((r1 ≤ x8 → (P_X1_tries g x0 ι2 (fun r5 ι6 => ((¬ r5 = 0 → (k47 x0 x2 x3 (x4 + r5) (if x5 < r5 then r5 else x5) x6 (x7 + 1) ι6)) ∧ (r5 = 0 → (k47 x0 x2 x3 (x4 + r5) (if x5 < r5 then r5 else x5) (x6 + 1) (x7 + 1) ι6)))))) ∧ (¬ r1 ≤ x8 → (gK g (gR g x0 0) = 3 ∧ (gK g (gR g (gR g x0 0) 6) = 18 ∧ (P_J2_get g (gR g (gR g x0 0) 6) x8 ι2 (fun r10 ι11 => (isSl (gK g r10) ∧ ((¬ (slTurned (gK g r10)) = 0 → (gK g (gR g x0 4) = 6 ∧ (P_X1_draw g x0 10 ι11 (fun r19 ι20 => (P_J2_get g (gR g (gR g x0 0) 6) x8 ι20 (fun r22 ι23 => (isSl (gK g r22) ∧ (((ι23 r22 5) ≤ r19 → (gK g (gR g (gR g x0 4) 1) = 100 ∧ (vp_in x8 (gL g (gR g (gR g x0 4) 1)) ∧ (∀ ι27, ι27 = up2 ι23 (gR g (gR g x0 4) 1) x8.toNatClampNeg 0 → (P_X1_year_56 g Xq Q k47  n x0 x2 x3 x4 x5 x6 x7 (x8 + 1) ι27))))) ∧ (¬ (ι23 r22 5) ≤ r19 → (P_X1_draw g x0 (ι23 (gR g x0 0) 2) ι23 (fun r29 ι30 => (gK g (gR g (gR g x0 4) 1) = 100 ∧ (vp_in x8 (gL g (gR g (gR g x0 4) 1)) ∧ (∀ ι33, ι33 = up2 ι30 (gR g (gR g x0 4) 1) x8.toNatClampNeg (1 + r29) → (P_X1_year_56 g Xq Q k47  n x0 x2 x3 x4 x5 x6 x7 (x8 + 1) ι33))))))))))))))) ∧ ((slTurned (gK g r10)) = 0 → (P_X1_year_56 g Xq Q k47  n x0 x2 x3 x4 x5 x6 x7 (x8 + 1) ι11)))))))))))))
def P_X1_year_47 (g : GT) (Xq : Nat → S → Prop) (Q : Int32 → S → Prop) : Nat → Nat → Int32 → Int32 → Int32 → Int32 → Int32 → Int32 → S → Prop
  | 0, _, _, _, _, _, _, _, _ => False
  | n + 1, x0, x2, x3, x4, x5, x6, x7, ι => ((x2 ≤ x7 → ((¬ x3 = 0 → ((¬ x3 = 1 → (Q x6 ι)) ∧ (x3 = 1 → (Q x5 ι)))) ∧ (x3 = 0 → (Q x4 ι)))) ∧ (¬ x2 ≤ x7 → (∃ n9, P_X1_year_56 g Xq Q (fun z0 z1 z2 z3 z4 z5 z6 z7 => P_X1_year_47 g Xq Q  n z0 z1 z2 z3 z4 z5 z6 z7) n9 x0 x2 x3 x4 x5 x6 x7 0 ι)))
def P_X1_year (g : GT) (Xq : Nat → S → Prop) (a0 : Nat) (a1 : Int32) (a2 : Int32) (a3 : Int32) (ι : S) (Q : Int32 → S → Prop) : Prop := (P_X1_within g a3 0 2 ι (fun r41 ι42 => (P_X1_there g Xq r41 ι42 (fun ι45 => (P_X1_within g a2 0 40 ι45 (fun r47 ι48 => (P_X1_right g Xq r47 ι48 (fun ι51 => (gK g a0 = 2 ∧ (gK g (gR g a0 4) = 6 ∧ (P_X6_like g (gR g a0 4) (gR g a0 3) ι51 (fun ι55 => (∀ ι58, ι58 = up2 ι55 a0 20 a1 → (∃ n9, P_X1_year_47 g Xq Q n9 a0 a2 a3 0 0 0 0 ι58))))))))))))))
set_option maxHeartbeats 2000000 in
theorem w_X1_year_56 (X : CX p s m args c meth cX1_year 9 (some .int) RX1 D dA ad A) (hlt : l.stackTraces = false) (hex : ∀ x ∈ c.exceptionTable.toList, False) {Xq : Nat → S → Prop} {Q : Int32 → S → Prop} {k47 : Nat → Int32 → Int32 → Int32 → Int32 → Int32 → Int32 → S → Prop} (hk47 : ∀ (x0 : Nat) (x2 : Int32) (x3 : Int32) (x4 : Int32) (x5 : Int32) (x6 : Int32) (x7 : Int32) (ι : S) (H : Heap) (locs : List Loc) (ls : Array Slot), k47 x0 x2 x3 x4 x5 x6 x7 ι → PW D dA A s.heap ad (HS g ι) H locs → LH ad ls 9 [(0, pX x0), (2, iX x2), (3, iX x3), (4, iX x4), (5, iX x5), (6, iX x6), (7, iX x7)] → WEi p l e ({ frames := 2110, cells := 2, slots := 12, locals := 45021 } : Room) s m args below meth c D dA ad A g Q Xq 2 12 H locs 2 12 (F0 m 47 ls [])) : ∀ (n : Nat) (x0 : Nat) (x2 : Int32) (x3 : Int32) (x4 : Int32) (x5 : Int32) (x6 : Int32) (x7 : Int32) (x8 : Int32) (ι : S) (H : Heap) (locs : List Loc) (ls : Array Slot), P_X1_year_56 g Xq Q k47 n x0 x2 x3 x4 x5 x6 x7 x8 ι → PW D dA A s.heap ad (HS g ι) H locs → LH ad ls 9 [(0, pX x0), (2, iX x2), (3, iX x3), (4, iX x4), (5, iX x5), (6, iX x6), (7, iX x7), (8, iX x8)] → WEi p l e ({ frames := 2110, cells := 2, slots := 12, locals := 45021 } : Room) s m args below meth c D dA ad A g Q Xq 2 12 H locs 2 12 (F0 m 56 ls []) := by
  intro n
  induction n with
  | zero =>
    intro x0 x2 x3 x4 x5 x6 x7 x8 ι H locs ls hF
    exact hF.elim
  | succ n ih =>
    intro x0 x2 x3 x4 x5 x6 x7 x8 ι H locs ls hF hP hl
    rw [P_X1_year_56] at hF
    refine ph_iload (n := 7) X hl dX1_year_56 rfl ?_
    refine ph_aload_n (n := 0) X hl dX1_year_58 rfl rfl ?_
    obtain ⟨hm4, hF⟩ := hF
    refine cg_callVi 1 [] X hP hm4 (met_X1_sleepers l D dA ad g _ _ hF) (cwV 0 X.2.2.2.2.1 (lw_V q883 q885 qs6 q98 q886) rfl rfl rfl (by decide +kernel) ⟨Nat.le_of_ble_eq_true rfl, Nat.le_of_ble_eq_true rfl⟩) rfl hl (k8 := 1) (csi (cs0 (k := 0))) (by decide) ⟨(Nat.le_of_ble_eq_true rfl), (Nat.le_of_ble_eq_true rfl)⟩ dX1_year_59 rfl (fun r1 ι2 H locs hF hP => ?_)
    refine lv_icmp_ge (tgt := 149) X.1 X.2.1 dX1_year_62 (by decide) (fun c37 => ?_) (fun c37 => ?_)
    · have hF := hF.1 c37
      refine ph_aload_n (n := 0) X hl dX1_year_149 rfl rfl ?_
      refine cg_callVi 1 [] X hP hm4 (met_X1_tries l D dA ad g _ _ hF) (cwV 0 X.2.2.2.2.1 (lw_V q957 q959 qs13 q98 q960) rfl rfl rfl (by decide +kernel) ⟨Nat.le_of_ble_eq_true rfl, Nat.le_of_ble_eq_true rfl⟩) rfl hl (k8 := 0) (cs0 (k := 0)) (by decide) ⟨(Nat.le_of_ble_eq_true rfl), (Nat.le_of_ble_eq_true rfl)⟩ dX1_year_150 rfl (fun r5 ι6 H locs hF hP => ?_)
      refine ph_istore X hl dX1_year_153 (by decide) rfl (fun ls hl => ?_)
      refine ph_iload (n := 4) X hl dX1_year_155 rfl ?_
      refine ph_iload (n := 0) X hl dX1_year_157 rfl ?_
      refine lv_iadd X.1 X.2.1 dX1_year_159 ?_
      refine ph_istore X hl dX1_year_160 (by decide) rfl (fun ls hl => ?_)
      refine ph_iload (n := 5) X hl dX1_year_162 rfl ?_
      refine ph_iload (n := 1) X hl dX1_year_164 rfl ?_
      refine va_mmax X.1 X.2.1 (X.2.2.1.trans hl.1.symm) X.2.2.2.1 (X.2.2.2.2.1 _ q1667) (X.2.2.2.2.1 _ q267) (X.2.2.2.2.1 _ q112) (X.2.2.2.2.1 _ q268) (Nat.le_of_ble_eq_true rfl) (Nat.le_trans (Nat.add_le_add_right (cs0 (k := 0)) 13) (Nat.le_of_ble_eq_true rfl)) (Nat.le_of_ble_eq_true rfl) (Nat.le_of_ble_eq_true rfl) dX1_year_166 ?_
      refine ph_istore X hl dX1_year_169 (by decide) rfl (fun ls hl => ?_)
      refine ph_iload (n := 2) X hl dX1_year_171 rfl ?_
      refine lv_if_ne (tgt := 179) X.1 X.2.1 dX1_year_173 (by decide) (fun c8 => ?_) (fun c8 => ?_)
      · have hF := hF.1 c8
        refine ph_iinc (v := x7 + 1) (k := 7) X hl dX1_year_179 rfl rfl (by decide) rfl (fun ls hl => ?_)
        refine lv_goto (tgt := 47) X.1 X.2.1 dX1_year_182 (by decide) ?_
        exact hk47 _ _ _ _ _ _ _ _ _ _ _ hF hP (lh_sub hl [4, 5, 6, 2, 1, 7, 0] rfl)
      · have hF := hF.2 c8
        refine ph_iinc (v := x6 + 1) (k := 6) X hl dX1_year_176 rfl rfl (by decide) rfl (fun ls hl => ?_)
        refine ph_iinc (v := x7 + 1) (k := 7) X hl dX1_year_179 rfl rfl (by decide) rfl (fun ls hl => ?_)
        refine lv_goto (tgt := 47) X.1 X.2.1 dX1_year_182 (by decide) ?_
        exact hk47 _ _ _ _ _ _ _ _ _ _ _ hF hP (lh_sub hl [5, 6, 7, 3, 2, 1, 0] rfl)
    · have hF := hF.2 c37
      refine ph_aload_n (n := 0) X hl dX1_year_65 rfl rfl ?_
      refine cg_getr 1 0 X in_X1 hP hm4 q799 dX1_year_66 ?_
      obtain ⟨hm9, hF⟩ := hF
      refine cg_getrN 2 6 X in_X2 hP hm9 q538 dX1_year_69 ?_
      refine ph_iload (n := 7) X hl dX1_year_72 rfl ?_
      obtain ⟨hm13, hF⟩ := hF
      refine cg_callVq 17 [iX x8] X hP hm13 (met_J2_get l D dA ad g _ _ hF) (cwV 1 X.2.2.2.2.1 (lw_V q930 q778 q779 q102 q780) rfl rfl rfl (by decide +kernel) ⟨Nat.le_of_ble_eq_true rfl, Nat.le_of_ble_eq_true rfl⟩) rfl hl (k8 := 0) (cs0 (k := 0)) (by decide) ⟨(Nat.le_of_ble_eq_true rfl), (Nat.le_of_ble_eq_true rfl)⟩ dX1_year_74 rfl (fun r10 ι11 H locs hF hv12 hP => ?_)
      obtain ⟨hm14, hF⟩ := hF
      refine cg_castSl X hP hm14 q1133 dX1_year_77 ?_
      refine cg_v_isTurned X hP hl hm14 q1608 (k8 := 0) (cs0 (k := 0)) (by decide) ⟨Nat.le_of_ble_eq_true rfl, Nat.le_of_ble_eq_true rfl⟩ ⟨(Nat.le_of_ble_eq_true rfl), (Nat.le_of_ble_eq_true rfl)⟩ dX1_year_80 (fun H locs hP => ?_)
      refine lv_if_ne (tgt := 89) X.1 X.2.1 dX1_year_83 (by decide) (fun c36 => ?_) (fun c36 => ?_)
      · have hF := hF.1 c36
        refine ph_aload_n (n := 0) X hl dX1_year_89 rfl rfl ?_
        refine cg_getr 1 4 X in_X1 hP hm4 q803 dX1_year_90 ?_
        obtain ⟨hm18, hF⟩ := hF
        refine cg_getrN 5 1 X in_X6 hP hm18 q585 dX1_year_93 ?_
        refine ph_iload (n := 7) X hl dX1_year_96 rfl ?_
        refine ph_aload_n (n := 0) X hl dX1_year_98 rfl rfl ?_
        refine lv_bipush (v := 10) X.1 X.2.1 dX1_year_99 (by decide) ?_
        refine cg_callVi 1 [iX 10] X hP hm4 (met_X1_draw l D dA ad g _ _ hF) (cwV 1 X.2.2.2.2.1 (lw_V q1747 q1749 qs43 q98 q1750) rfl rfl rfl (by decide +kernel) ⟨Nat.le_of_ble_eq_true rfl, Nat.le_of_ble_eq_true rfl⟩) rfl hl (k8 := 2) (csi (csr (cs0 (k := 0)))) (by decide) ⟨(Nat.le_of_ble_eq_true rfl), (Nat.le_of_ble_eq_true rfl)⟩ dX1_year_101 rfl (fun r19 ι20 H locs hF hP => ?_)
        refine ph_aload_n (n := 0) X hl dX1_year_104 rfl rfl ?_
        refine cg_getr 1 0 X in_X1 hP hm4 q799 dX1_year_105 ?_
        refine cg_getrN 2 6 X in_X2 hP hm9 q538 dX1_year_108 ?_
        refine ph_iload (n := 7) X hl dX1_year_111 rfl ?_
        refine cg_callVq 17 [iX x8] X hP hm13 (met_J2_get l D dA ad g _ _ hF) (cwV 1 X.2.2.2.2.1 (lw_V q930 q778 q779 q102 q780) rfl rfl rfl (by decide +kernel) ⟨Nat.le_of_ble_eq_true rfl, Nat.le_of_ble_eq_true rfl⟩) rfl hl (k8 := 3) (csi (csi (csr (cs0 (k := 0))))) (by decide) ⟨(Nat.le_of_ble_eq_true rfl), (Nat.le_of_ble_eq_true rfl)⟩ dX1_year_113 rfl (fun r22 ι23 H locs hF hv24 hP => ?_)
        obtain ⟨hm25, hF⟩ := hF
        refine cg_castSl X hP hm25 q1133 dX1_year_116 ?_
        refine cg_getSl 5 X hP hm25 q1502 dX1_year_119 ?_
        refine lv_icmp_ge (tgt := 141) X.1 X.2.1 dX1_year_122 (by decide) (fun c35 => ?_) (fun c35 => ?_)
        · have hF := hF.1 c35
          refine lv_iconst (v := 0) X.1 X.2.1 dX1_year_141 (by decide) ?_
          obtain ⟨hm26, hF⟩ := hF
          obtain ⟨hr28, hF⟩ := hF
          refine cg_iast X hP hm26 hr28 (k := x8.toNatClampNeg) rfl dX1_year_142 hF (fun H locs ι27 hP hF => ?_)
          refine ph_iinc (v := x8 + 1) (k := 7) X hl dX1_year_143 rfl rfl (by decide) rfl (fun ls hl => ?_)
          refine lv_goto (tgt := 56) X.1 X.2.1 dX1_year_146 (by decide) ?_
          exact ih _ _ _ _ _ _ _ _ _ _ _ _ hF hP (lh_sub hl [1, 2, 3, 4, 5, 6, 7, 0] rfl)
        · have hF := hF.2 c35
          refine lv_iconst (v := 1) X.1 X.2.1 dX1_year_125 (by decide) ?_
          refine ph_aload_n (n := 0) X hl dX1_year_126 rfl rfl ?_
          refine ph_aload_n (n := 0) X hl dX1_year_127 rfl rfl ?_
          refine cg_getr 1 0 X in_X1 hP hm4 q799 dX1_year_128 ?_
          refine cg_getiN 2 2 X in_X2 hP hm9 q524 dX1_year_131 ?_
          refine cg_callVi 1 [iX (ι23 (gR g x0 0) 2)] X hP hm4 (met_X1_draw l D dA ad g _ _ hF) (cwV 1 X.2.2.2.2.1 (lw_V q1747 q1749 qs43 q98 q1750) rfl rfl rfl (by decide +kernel) ⟨Nat.le_of_ble_eq_true rfl, Nat.le_of_ble_eq_true rfl⟩) rfl hl (k8 := 3) (csi (csi (csr (cs0 (k := 0))))) (by decide) ⟨(Nat.le_of_ble_eq_true rfl), (Nat.le_of_ble_eq_true rfl)⟩ dX1_year_134 rfl (fun r29 ι30 H locs hF hP => ?_)
          refine lv_iadd X.1 X.2.1 dX1_year_137 ?_
          refine lv_goto (tgt := 142) X.1 X.2.1 dX1_year_138 (by decide) ?_
          obtain ⟨hm32, hF⟩ := hF
          obtain ⟨hr34, hF⟩ := hF
          refine cg_iast X hP hm32 hr34 (k := x8.toNatClampNeg) rfl dX1_year_142 hF (fun H locs ι33 hP hF => ?_)
          refine ph_iinc (v := x8 + 1) (k := 7) X hl dX1_year_143 rfl rfl (by decide) rfl (fun ls hl => ?_)
          refine lv_goto (tgt := 56) X.1 X.2.1 dX1_year_146 (by decide) ?_
          exact ih _ _ _ _ _ _ _ _ _ _ _ _ hF hP (lh_sub hl [1, 2, 3, 4, 5, 6, 7, 0] rfl)
      · have hF := hF.2 c36
        refine lv_goto (tgt := 143) X.1 X.2.1 dX1_year_86 (by decide) ?_
        refine ph_iinc (v := x8 + 1) (k := 7) X hl dX1_year_143 rfl rfl (by decide) rfl (fun ls hl => ?_)
        refine lv_goto (tgt := 56) X.1 X.2.1 dX1_year_146 (by decide) ?_
        exact ih _ _ _ _ _ _ _ _ _ _ _ _ hF hP (lh_sub hl [1, 2, 3, 4, 5, 6, 7, 0] rfl)
set_option maxHeartbeats 2000000 in
theorem w_X1_year_47 (X : CX p s m args c meth cX1_year 9 (some .int) RX1 D dA ad A) (hlt : l.stackTraces = false) (hex : ∀ x ∈ c.exceptionTable.toList, False) {Xq : Nat → S → Prop} {Q : Int32 → S → Prop} : ∀ (n : Nat) (x0 : Nat) (x2 : Int32) (x3 : Int32) (x4 : Int32) (x5 : Int32) (x6 : Int32) (x7 : Int32) (ι : S) (H : Heap) (locs : List Loc) (ls : Array Slot), P_X1_year_47 g Xq Q n x0 x2 x3 x4 x5 x6 x7 ι → PW D dA A s.heap ad (HS g ι) H locs → LH ad ls 9 [(0, pX x0), (2, iX x2), (3, iX x3), (4, iX x4), (5, iX x5), (6, iX x6), (7, iX x7)] → WEi p l e ({ frames := 2110, cells := 2, slots := 12, locals := 45021 } : Room) s m args below meth c D dA ad A g Q Xq 2 12 H locs 2 12 (F0 m 47 ls []) := by
  intro n
  induction n with
  | zero =>
    intro x0 x2 x3 x4 x5 x6 x7 ι H locs ls hF
    exact hF.elim
  | succ n ih =>
    intro x0 x2 x3 x4 x5 x6 x7 ι H locs ls hF hP hl
    rw [P_X1_year_47] at hF
    refine ph_iload (n := 6) X hl dX1_year_47 rfl ?_
    refine ph_iload_n (n := 1) X hl dX1_year_49 rfl rfl ?_
    refine lv_icmp_ge (tgt := 185) X.1 X.2.1 dX1_year_50 (by decide) (fun c40 => ?_) (fun c40 => ?_)
    · have hF := hF.1 c40
      refine ph_iload_n (n := 2) X hl dX1_year_185 rfl rfl ?_
      refine lv_if_ne (tgt := 194) X.1 X.2.1 dX1_year_186 (by decide) (fun c39 => ?_) (fun c39 => ?_)
      · have hF := hF.1 c39
        refine ph_iload_n (n := 2) X hl dX1_year_194 rfl rfl ?_
        refine lv_iconst (v := 1) X.1 X.2.1 dX1_year_195 (by decide) ?_
        refine lv_icmp_ne (tgt := 204) X.1 X.2.1 dX1_year_196 (by decide) (fun c38 => ?_) (fun c38 => ?_)
        · have hF := hF.1 c38
          refine ph_iload (n := 5) X hl dX1_year_204 rfl ?_
          exact xg_iret X hP hF (Nat.le_of_ble_eq_true rfl) (Nat.le_of_ble_eq_true rfl) dX1_year_206
        · have hF := hF.2 c38
          refine ph_iload (n := 4) X hl dX1_year_199 rfl ?_
          refine lv_goto (tgt := 206) X.1 X.2.1 dX1_year_201 (by decide) ?_
          exact xg_iret X hP hF (Nat.le_of_ble_eq_true rfl) (Nat.le_of_ble_eq_true rfl) dX1_year_206
      · have hF := hF.2 c39
        refine ph_iload (n := 3) X hl dX1_year_189 rfl ?_
        refine lv_goto (tgt := 206) X.1 X.2.1 dX1_year_191 (by decide) ?_
        exact xg_iret X hP hF (Nat.le_of_ble_eq_true rfl) (Nat.le_of_ble_eq_true rfl) dX1_year_206
    · have hF := hF.2 c40
      refine lv_iconst (v := 0) X.1 X.2.1 dX1_year_53 (by decide) ?_
      refine ph_istore X hl dX1_year_54 (by decide) rfl (fun ls hl => ?_)
      obtain ⟨n9, hF⟩ := hF
      exact w_X1_year_56 X hlt hex ih n9 _ _ _ _ _ _ _ _ _ _ _ _ hF hP (lh_sub hl [1, 2, 3, 4, 5, 6, 7, 0] rfl)
set_option maxHeartbeats 2000000 in
theorem met_X1_year (l : Launch) (D : va_G) (dA : Nat → ClassId) (ad : Nat → Nat) (g : GT) (hlt : l.stackTraces = false) (ι : S) (sz : Nat) {a0 : Nat} {a1 : Int32} {a2 : Int32} {a3 : Int32} {Q : Int32 → S → Prop} {Xq : Nat → S → Prop} (hF : P_X1_year g Xq a0 a1 a2 a3 ι Q) : CEi l yX1_year cX1_year 9 .int ({ frames := 2110, cells := 2, slots := 12, locals := 45021 } : Room) D dA ad g ι sz [pX a0, iX a1, iX a2, iX a3] Q Xq 2 12 := by
  unfold P_X1_year at hF
  refine xg_enter [pX a0, iX a1, iX a2, iX a3] (Qc := fun A => va_Qi (GQi g Q) (CB D dA ad A) A) (XC := fun A => XCC D dA ad g A Xq) (by decide +kernel) (Nat.le_of_ble_eq_true rfl) ?_
  intro p e s m args below meth c A ls X hP hl hex
  have hl : LH ad ls 9 [(0, pX a0), (1, iX a1), (2, iX a2), (3, iX a3)] := hl
  refine ph_iload_n (n := 3) X hl dX1_year_0 rfl rfl ?_
  refine lv_iconst (v := 0) X.1 X.2.1 dX1_year_1 (by decide) ?_
  refine lv_iconst (v := 2) X.1 X.2.1 dX1_year_2 (by decide) ?_
  refine cg_callSi [iX a3, iX 0, iX 2] X hP (met_X1_within l D dA ad g _ _ hF) (va_cwS 3 X.2.2.2.2.1 (lw_S q919 q920 q98 q921) rfl rfl rfl (by decide +kernel) ⟨Nat.le_of_ble_eq_true rfl, Nat.le_of_ble_eq_true rfl⟩) rfl hl (k8 := 0) (cs0 (k := 0)) (by decide) ⟨(Nat.le_of_ble_eq_true rfl), (Nat.le_of_ble_eq_true rfl)⟩ dX1_year_3 rfl (fun r41 ι42 H locs hF hP => ?_)
  refine xg_callSv [iX r41] X hP hex (met_X1_there l D dA ad g hlt _ _ hF) (va_cwS 1 X.2.2.2.2.1 (lw_S q1556 q1557 q98 q1558) rfl rfl rfl (by decide +kernel) ⟨(Nat.le_of_ble_eq_true rfl), (Nat.le_of_ble_eq_true rfl)⟩) rfl hl (k8 := 0) (cs0 (k := 0)) (by decide) ⟨(Nat.le_of_ble_eq_true rfl), (Nat.le_of_ble_eq_true rfl)⟩ (Nat.le_of_ble_eq_true rfl) (Nat.le_of_ble_eq_true rfl) dX1_year_6 rfl (fun ι45 H locs hF hP => ?_)
  refine ph_iload_n (n := 2) X hl dX1_year_9 rfl rfl ?_
  refine lv_iconst (v := 0) X.1 X.2.1 dX1_year_10 (by decide) ?_
  refine lv_bipush (v := 40) X.1 X.2.1 dX1_year_11 (by decide) ?_
  refine cg_callSi [iX a2, iX 0, iX 40] X hP (met_X1_within l D dA ad g _ _ hF) (va_cwS 3 X.2.2.2.2.1 (lw_S q919 q920 q98 q921) rfl rfl rfl (by decide +kernel) ⟨Nat.le_of_ble_eq_true rfl, Nat.le_of_ble_eq_true rfl⟩) rfl hl (k8 := 0) (cs0 (k := 0)) (by decide) ⟨(Nat.le_of_ble_eq_true rfl), (Nat.le_of_ble_eq_true rfl)⟩ dX1_year_13 rfl (fun r47 ι48 H locs hF hP => ?_)
  refine xg_callSv [iX r47] X hP hex (met_X1_right l D dA ad g hlt _ _ hF) (va_cwS 1 X.2.2.2.2.1 (lw_S q1161 q1162 q98 q1163) rfl rfl rfl (by decide +kernel) ⟨(Nat.le_of_ble_eq_true rfl), (Nat.le_of_ble_eq_true rfl)⟩) rfl hl (k8 := 0) (cs0 (k := 0)) (by decide) ⟨(Nat.le_of_ble_eq_true rfl), (Nat.le_of_ble_eq_true rfl)⟩ (Nat.le_of_ble_eq_true rfl) (Nat.le_of_ble_eq_true rfl) dX1_year_16 rfl (fun ι51 H locs hF hP => ?_)
  refine ph_aload_n (n := 0) X hl dX1_year_19 rfl rfl ?_
  obtain ⟨hm53, hF⟩ := hF
  refine cg_getr 1 4 X in_X1 hP hm53 q803 dX1_year_20 ?_
  refine ph_aload_n (n := 0) X hl dX1_year_23 rfl rfl ?_
  refine cg_getr 1 3 X in_X1 hP hm53 q802 dX1_year_24 ?_
  obtain ⟨hm57, hF⟩ := hF
  refine cg_callVv 5 [pX (gR g a0 3)] X hP hm57 (met_X6_like l D dA ad g _ _ hF) (cwV 1 X.2.2.2.2.1 (lw_V q931 q907 q908 q123 q909) rfl rfl rfl (by decide +kernel) ⟨Nat.le_of_ble_eq_true rfl, Nat.le_of_ble_eq_true rfl⟩) rfl hl (k8 := 0) (cs0 (k := 0)) (by decide) ⟨(Nat.le_of_ble_eq_true rfl), (Nat.le_of_ble_eq_true rfl)⟩ dX1_year_27 rfl (fun ι55 H locs hF hP => ?_)
  refine ph_aload_n (n := 0) X hl dX1_year_30 rfl rfl ?_
  refine ph_iload_n (n := 1) X hl dX1_year_31 rfl rfl ?_
  refine cg_puti 1 20 X in_X1 tyX1 tyX1_ok nmX1 hP hm53 q819 dX1_year_32 hF (fun H locs ι58 hP hF => ?_)
  refine lv_iconst (v := 0) X.1 X.2.1 dX1_year_35 (by decide) ?_
  refine ph_istore X hl dX1_year_36 (by decide) rfl (fun ls hl => ?_)
  refine lv_iconst (v := 0) X.1 X.2.1 dX1_year_38 (by decide) ?_
  refine ph_istore X hl dX1_year_39 (by decide) rfl (fun ls hl => ?_)
  refine lv_iconst (v := 0) X.1 X.2.1 dX1_year_41 (by decide) ?_
  refine ph_istore X hl dX1_year_42 (by decide) rfl (fun ls hl => ?_)
  refine lv_iconst (v := 0) X.1 X.2.1 dX1_year_44 (by decide) ?_
  refine ph_istore X hl dX1_year_45 (by decide) rfl (fun ls hl => ?_)
  obtain ⟨n9, hF⟩ := hF
  exact w_X1_year_47 X hlt hex n9 _ _ _ _ _ _ _ _ _ _ _ hF hP (lh_sub hl [4, 6, 7, 3, 2, 1, 0] rfl)
def P_X1_fits_2_12 (g : GT) (Q : Int32 → S → Prop) : Nat → Nat → Int32 → S → Prop
  | 0, _, _, _ => False
  | n + 1, x0, x1, ι => ((x1 = 0 → (isB x1 ∧ Q x1 ι)) ∧ (¬ x1 = 0 → (gK g x0 = 2 ∧ (gK g (gR g x0 11) = 7 ∧ (gK g (gR g x0 0) = 3 ∧ (((ι (gR g x0 0) 2) ≤ (ι (gR g x0 11) 14) → (isB x1 ∧ Q x1 ι)) ∧ (¬ (ι (gR g x0 0) 2) ≤ (ι (gR g x0 11) 14) → (P_X7_next g (gR g x0 11) ι (fun ι5 => (P_X1_isSeen g x0 ι5 (fun r7 ι8 => (P_X1_fits_2_12 g Q  n x0 r7 ι8))))))))))))
def P_X1_fits_2 (g : GT) (a0 : Nat) (ι : S) (Q : Int32 → S → Prop) : Prop := (gK g a0 = 2 ∧ (gK g (gR g a0 11) = 7 ∧ (P_X7_begins g (gR g a0 11) ι (fun ι14 => (P_X1_isSeen g a0 ι14 (fun r17 ι18 => (∃ n9, P_X1_fits_2_12 g Q n9 a0 r17 ι18)))))))
set_option maxHeartbeats 2000000 in
theorem w_X1_fits_2_12 (X : CX p s m args c meth cX1_fits_2 2 (some .boolean) RX1 D dA ad A) {Q : Int32 → S → Prop} : ∀ (n : Nat) (x0 : Nat) (x1 : Int32) (ι : S) (H : Heap) (locs : List Loc) (ls : Array Slot), P_X1_fits_2_12 g Q n x0 x1 ι → PW D dA A s.heap ad (HS g ι) H locs → LH ad ls 2 [(0, pX x0), (1, iX x1)] → WGi p l e ({ frames := 2107, cells := 0, slots := 0, locals := 44960 } : Room) s m args below meth c D dA ad A g Q H locs (F0 m 12 ls []) := by
  intro n
  induction n with
  | zero =>
    intro x0 x1 ι H locs ls hF
    exact hF.elim
  | succ n ih =>
    intro x0 x1 ι H locs ls hF hP hl
    rw [P_X1_fits_2_12] at hF
    refine ph_iload_n (n := 1) X hl dX1_fits_2_12 rfl rfl ?_
    refine lv_if_eq (tgt := 48) X.1 X.2.1 dX1_fits_2_13 (by decide) (fun c11 => ?_) (fun c11 => ?_)
    · have hF := hF.1 c11
      refine ph_iload_n (n := 1) X hl dX1_fits_2_48 rfl rfl ?_
      exact cg_zret X hP hF.1 hF.2 dX1_fits_2_49
    · have hF := hF.2 c11
      refine ph_aload_n (n := 0) X hl dX1_fits_2_16 rfl rfl ?_
      obtain ⟨hm1, hF⟩ := hF
      refine cg_getr 1 11 X in_X1 hP hm1 q810 dX1_fits_2_17 ?_
      obtain ⟨hm2, hF⟩ := hF
      refine cg_getiN 6 14 X in_X7 hP hm2 q737 dX1_fits_2_20 ?_
      refine ph_aload_n (n := 0) X hl dX1_fits_2_23 rfl rfl ?_
      refine cg_getr 1 0 X in_X1 hP hm1 q799 dX1_fits_2_24 ?_
      obtain ⟨hm3, hF⟩ := hF
      refine cg_getiN 2 2 X in_X2 hP hm3 q524 dX1_fits_2_27 ?_
      refine lv_icmp_ge (tgt := 48) X.1 X.2.1 dX1_fits_2_30 (by decide) (fun c10 => ?_) (fun c10 => ?_)
      · have hF := hF.1 c10
        refine ph_iload_n (n := 1) X hl dX1_fits_2_48 rfl rfl ?_
        exact cg_zret X hP hF.1 hF.2 dX1_fits_2_49
      · have hF := hF.2 c10
        refine ph_aload_n (n := 0) X hl dX1_fits_2_33 rfl rfl ?_
        refine cg_getr 1 11 X in_X1 hP hm1 q810 dX1_fits_2_34 ?_
        refine cg_callVv 6 [] X hP hm2 (met_X7_next l D dA ad g _ _ hF) (cwV 0 X.2.2.2.2.1 (lw_V q1727 q974 q975 q124 q976) rfl rfl rfl (by decide +kernel) ⟨Nat.le_of_ble_eq_true rfl, Nat.le_of_ble_eq_true rfl⟩) rfl hl (k8 := 0) (cs0 (k := 0)) (by decide) ⟨Nat.le_refl _, Nat.le_refl _⟩ dX1_fits_2_37 rfl (fun ι5 H locs hF hP => ?_)
        refine ph_aload_n (n := 0) X hl dX1_fits_2_40 rfl rfl ?_
        refine cg_callVi 1 [] X hP hm1 (met_X1_isSeen l D dA ad g _ _ hF) (cwV 0 X.2.2.2.2.1 (lw_V q1722 q1724 qs42 q98 q1725) rfl rfl rfl (by decide +kernel) ⟨Nat.le_of_ble_eq_true rfl, Nat.le_of_ble_eq_true rfl⟩) rfl hl (k8 := 0) (cs0 (k := 0)) (by decide) ⟨Nat.le_refl _, Nat.le_refl _⟩ dX1_fits_2_41 rfl (fun r7 ι8 H locs hF hP => ?_)
        refine ph_istore_n X hl dX1_fits_2_44 rfl (by decide) rfl (fun ls hl => ?_)
        refine lv_goto (tgt := 12) X.1 X.2.1 dX1_fits_2_45 (by decide) ?_
        exact ih _ _ _ _ _ _ hF hP (lh_sub hl [1, 0] rfl)
set_option maxHeartbeats 2000000 in
theorem met_X1_fits_2 (l : Launch) (D : va_G) (dA : Nat → ClassId) (ad : Nat → Nat) (g : GT) (ι : S) (sz : Nat) {a0 : Nat} {Q : Int32 → S → Prop} (hF : P_X1_fits_2 g a0 ι Q) : CGi l yX1_fits_2 cX1_fits_2 2 .boolean ({ frames := 2107, cells := 0, slots := 0, locals := 44960 } : Room) D dA ad g ι sz [pX a0] Q := by
  unfold P_X1_fits_2 at hF
  refine ph_enter [pX a0] (Qc := fun A => va_Qi (GQi g Q) (CB D dA ad A) A) (by decide +kernel) (Nat.le_of_ble_eq_true rfl) ?_
  intro p e s m args below meth c A ls X hP hl hnm
  have hl : LH ad ls 2 [(0, pX a0)] := hl
  refine ph_aload_n (n := 0) X hl dX1_fits_2_0 rfl rfl ?_
  obtain ⟨hm12, hF⟩ := hF
  refine cg_getr 1 11 X in_X1 hP hm12 q810 dX1_fits_2_1 ?_
  obtain ⟨hm16, hF⟩ := hF
  refine cg_callVv 6 [] X hP hm16 (met_X7_begins l D dA ad g _ _ hF) (cwV 0 X.2.2.2.2.1 (lw_V q1721 q970 q971 q124 q972) rfl rfl rfl (by decide +kernel) ⟨Nat.le_of_ble_eq_true rfl, Nat.le_of_ble_eq_true rfl⟩) rfl hl (k8 := 0) (cs0 (k := 0)) (by decide) ⟨Nat.le_refl _, Nat.le_refl _⟩ dX1_fits_2_4 rfl (fun ι14 H locs hF hP => ?_)
  refine ph_aload_n (n := 0) X hl dX1_fits_2_7 rfl rfl ?_
  refine cg_callVi 1 [] X hP hm12 (met_X1_isSeen l D dA ad g _ _ hF) (cwV 0 X.2.2.2.2.1 (lw_V q1722 q1724 qs42 q98 q1725) rfl rfl rfl (by decide +kernel) ⟨Nat.le_of_ble_eq_true rfl, Nat.le_of_ble_eq_true rfl⟩) rfl hl (k8 := 0) (cs0 (k := 0)) (by decide) ⟨Nat.le_refl _, Nat.le_refl _⟩ dX1_fits_2_8 rfl (fun r17 ι18 H locs hF hP => ?_)
  refine ph_istore_n X hl dX1_fits_2_11 rfl (by decide) rfl (fun ls hl => ?_)
  obtain ⟨n9, hF⟩ := hF
  exact w_X1_fits_2_12 X n9 _ _ _ _ _ _ hF hP (lh_sub hl [1, 0] rfl)
def P_X1_fits_107 (g : GT) (Xq : Nat → S → Prop) (Q : Int32 → S → Prop) (k27 : Nat → Int32 → Int32 → Int32 → Int32 → S → Prop) (k36 : Nat → Int32 → Int32 → Int32 → Int32 → Int32 → S → Prop) (y0 : Nat) (y1 : Int32) (x0 : Nat) (x1 : Int32) (x2 : Int32) (x3 : Int32) (x4 : Int32) (x5 : Int32) (ι : S) : Prop := (gK g y0 = 6 ∧ (∀ ι2, ι2 = up2 ι y0 4 y1 → (gK g x0 = 2 ∧ (P_X1_fits_2 g x0 ι2 (fun r3 ι4 => ((¬ r3 = 0 → ((¬ x3 = (-1) → (k36 x0 x1 (x2 + 1) x3 x4 (x5 + 1) ι4)) ∧ (x3 = (-1) → (k36 x0 x1 (x2 + 1) ((100 * x4) + x5) x4 (x5 + 1) ι4)))) ∧ (r3 = 0 → (k36 x0 x1 x2 x3 x4 (x5 + 1) ι4))))))))
def P_X1_fits_69 (g : GT) (Xq : Nat → S → Prop) (Q : Int32 → S → Prop) (k27 : Nat → Int32 → Int32 → Int32 → Int32 → S → Prop) (k36 : Nat → Int32 → Int32 → Int32 → Int32 → Int32 → S → Prop) (y0 : Nat) (y1 : Int32) (x0 : Nat) (x1 : Int32) (x2 : Int32) (x3 : Int32) (x4 : Int32) (x5 : Int32) (ι : S) : Prop := (gK g y0 = 6 ∧ (∀ ι10, ι10 = up2 ι y0 5 y1 → (gK g x0 = 2 ∧ ((¬ x5 = 0 → (gK g (gR g x0 3) = 6 ∧ ((¬ (ι10 (gR g x0 3) 4) = (-1) → (P_X1_fits_107 g Xq Q k27 k36 (gR g x0 4) (ι10 (gR g x0 3) 4) x0 x1 x2 x3 x4 x5 ι10)) ∧ ((ι10 (gR g x0 3) 4) = (-1) → (P_X1_fits_107 g Xq Q k27 k36 (gR g x0 4) 0 x0 x1 x2 x3 x4 x5 ι10))))) ∧ (x5 = 0 → (P_X1_fits_107 g Xq Q k27 k36 (gR g x0 4) (-1) x0 x1 x2 x3 x4 x5 ι10))))))
def P_X1_fits_36 (g : GT) (Xq : Nat → S → Prop) (Q : Int32 → S → Prop) (k27 : Nat → Int32 → Int32 → Int32 → Int32 → S → Prop) : Nat → Nat → Int32 → Int32 → Int32 → Int32 → Int32 → S → Prop
  | 0, _, _, _, _, _, _, _ => False
  | n + 1, x0, x1, x2, x3, x4, x5, ι => ((60 < x5 → (k27 x0 x1 x2 x3 (x4 + 1) ι)) ∧ (¬ 60 < x5 → (gK g x0 = 2 ∧ (gK g (gR g x0 4) = 6 ∧ (∀ ι17, ι17 = up2 ι (gR g x0 4) 3 x4 → (P_X1_sleepers g x0 ι17 (fun r18 ι19 => ((¬ r18 = 0 → (P_X1_fits_69 g Xq Q k27 (fun z0 z1 z2 z3 z4 z5 z6 => P_X1_fits_36 g Xq Q k27  n z0 z1 z2 z3 z4 z5 z6) (gR g x0 4) x5 x0 x1 x2 x3 x4 x5 ι19)) ∧ (r18 = 0 → (P_X1_fits_69 g Xq Q k27 (fun z0 z1 z2 z3 z4 z5 z6 => P_X1_fits_36 g Xq Q k27  n z0 z1 z2 z3 z4 z5 z6) (gR g x0 4) 0 x0 x1 x2 x3 x4 x5 ι19))))))))))
def P_X1_fits_27 (g : GT) (Xq : Nat → S → Prop) (Q : Int32 → S → Prop) : Nat → Nat → Int32 → Int32 → Int32 → Int32 → S → Prop
  | 0, _, _, _, _, _, _ => False
  | n + 1, x0, x1, x2, x3, x4, ι => ((2 ≤ x4 → ((¬ x1 = 0 → (Q x3 ι)) ∧ (x1 = 0 → (Q x2 ι)))) ∧ (¬ 2 ≤ x4 → (∃ n9, P_X1_fits_36 g Xq Q (fun z0 z1 z2 z3 z4 z5 => P_X1_fits_27 g Xq Q  n z0 z1 z2 z3 z4 z5) n9 x0 x1 x2 x3 x4 0 ι)))
def P_X1_fits (g : GT) (Xq : Nat → S → Prop) (a0 : Nat) (a1 : Int32) (ι : S) (Q : Int32 → S → Prop) : Prop := (P_X1_within g a1 0 1 ι (fun r25 ι26 => (P_X1_there g Xq r25 ι26 (fun ι29 => (gK g a0 = 2 ∧ (gK g (gR g a0 4) = 6 ∧ (P_X6_like g (gR g a0 4) (gR g a0 3) ι29 (fun ι33 => (∃ n9, P_X1_fits_27 g Xq Q n9 a0 a1 0 (-1) 0 ι33)))))))))
set_option maxHeartbeats 2000000 in
theorem w_X1_fits_107 (X : CX p s m args c meth cX1_fits 6 (some .int) RX1 D dA ad A) (hlt : l.stackTraces = false) (hex : ∀ x ∈ c.exceptionTable.toList, False) {Xq : Nat → S → Prop} {Q : Int32 → S → Prop} {k27 : Nat → Int32 → Int32 → Int32 → Int32 → S → Prop} {k36 : Nat → Int32 → Int32 → Int32 → Int32 → Int32 → S → Prop} (hk27 : ∀ (x0 : Nat) (x1 : Int32) (x2 : Int32) (x3 : Int32) (x4 : Int32) (ι : S) (H : Heap) (locs : List Loc) (ls : Array Slot), k27 x0 x1 x2 x3 x4 ι → PW D dA A s.heap ad (HS g ι) H locs → LH ad ls 6 [(0, pX x0), (1, iX x1), (2, iX x2), (3, iX x3), (4, iX x4)] → WEi p l e ({ frames := 2108, cells := 1, slots := 6, locals := 44981 } : Room) s m args below meth c D dA ad A g Q Xq 1 6 H locs 1 6 (F0 m 27 ls [])) (hk36 : ∀ (x0 : Nat) (x1 : Int32) (x2 : Int32) (x3 : Int32) (x4 : Int32) (x5 : Int32) (ι : S) (H : Heap) (locs : List Loc) (ls : Array Slot), k36 x0 x1 x2 x3 x4 x5 ι → PW D dA A s.heap ad (HS g ι) H locs → LH ad ls 6 [(0, pX x0), (1, iX x1), (2, iX x2), (3, iX x3), (4, iX x4), (5, iX x5)] → WEi p l e ({ frames := 2108, cells := 1, slots := 6, locals := 44981 } : Room) s m args below meth c D dA ad A g Q Xq 1 6 H locs 1 6 (F0 m 36 ls [])) : ∀ (y0 : Nat) (y1 : Int32) (x0 : Nat) (x1 : Int32) (x2 : Int32) (x3 : Int32) (x4 : Int32) (x5 : Int32) (ι : S) (H : Heap) (locs : List Loc) (ls : Array Slot), P_X1_fits_107 g Xq Q k27 k36 y0 y1 x0 x1 x2 x3 x4 x5 ι → PW D dA A s.heap ad (HS g ι) H locs → LH ad ls 6 [(0, pX x0), (1, iX x1), (2, iX x2), (3, iX x3), (4, iX x4), (5, iX x5)] → WEi p l e ({ frames := 2108, cells := 1, slots := 6, locals := 44981 } : Room) s m args below meth c D dA ad A g Q Xq 1 6 H locs 1 6 (F0 m 107 ls [.int y1, rv ad y0]) := by
  intro y0 y1 x0 x1 x2 x3 x4 x5 ι H locs ls hF hP hl
  unfold P_X1_fits_107 at hF
  obtain ⟨hm1, hF⟩ := hF
  refine cg_putiN 5 4 X in_X6 tyX6 tyX6_ok nmX6 hP hm1 q593 dX1_fits_107 hF (fun H locs ι2 hP hF => ?_)
  refine ph_aload_n (n := 0) X hl dX1_fits_110 rfl rfl ?_
  obtain ⟨hm6, hF⟩ := hF
  refine cg_callVi 1 [] X hP hm6 (met_X1_fits_2 l D dA ad g _ _ hF) (cwV 0 X.2.2.2.2.1 (lw_V q1717 q1719 qs41 q98 q1720) rfl rfl rfl (by decide +kernel) ⟨Nat.le_of_ble_eq_true rfl, Nat.le_of_ble_eq_true rfl⟩) rfl hl (k8 := 0) (cs0 (k := 0)) (by decide) ⟨(Nat.le_of_ble_eq_true rfl), (Nat.le_of_ble_eq_true rfl)⟩ dX1_fits_111 rfl (fun r3 ι4 H locs hF hP => ?_)
  refine lv_if_ne (tgt := 120) X.1 X.2.1 dX1_fits_114 (by decide) (fun c8 => ?_) (fun c8 => ?_)
  · have hF := hF.1 c8
    refine ph_iinc (v := x2 + 1) (k := 2) X hl dX1_fits_120 rfl rfl (by decide) rfl (fun ls hl => ?_)
    refine ph_iload_n (n := 3) X hl dX1_fits_123 rfl rfl ?_
    refine lv_iconst (v := (-1)) X.1 X.2.1 dX1_fits_124 (by decide) ?_
    refine lv_icmp_ne (tgt := 137) X.1 X.2.1 dX1_fits_125 (by decide) (fun c7 => ?_) (fun c7 => ?_)
    · have hF := hF.1 c7
      refine ph_iinc (v := x5 + 1) (k := 5) X hl dX1_fits_137 rfl rfl (by decide) rfl (fun ls hl => ?_)
      refine lv_goto (tgt := 36) X.1 X.2.1 dX1_fits_140 (by decide) ?_
      exact hk36 _ _ _ _ _ _ _ _ _ _ hF hP (lh_sub hl [2, 3, 1, 4, 5, 0] rfl)
    · have hF := hF.2 c7
      refine lv_bipush (v := 100) X.1 X.2.1 dX1_fits_128 (by decide) ?_
      refine ph_iload (n := 4) X hl dX1_fits_130 rfl ?_
      refine lv_imul X.1 X.2.1 dX1_fits_132 ?_
      refine ph_iload (n := 5) X hl dX1_fits_133 rfl ?_
      refine lv_iadd X.1 X.2.1 dX1_fits_135 ?_
      refine ph_istore_n X hl dX1_fits_136 rfl (by decide) rfl (fun ls hl => ?_)
      refine ph_iinc (v := x5 + 1) (k := 5) X hl dX1_fits_137 rfl rfl (by decide) rfl (fun ls hl => ?_)
      refine lv_goto (tgt := 36) X.1 X.2.1 dX1_fits_140 (by decide) ?_
      exact hk36 _ _ _ _ _ _ _ _ _ _ hF hP (lh_sub hl [3, 4, 2, 1, 5, 0] rfl)
  · have hF := hF.2 c8
    refine lv_goto (tgt := 137) X.1 X.2.1 dX1_fits_117 (by decide) ?_
    refine ph_iinc (v := x5 + 1) (k := 5) X hl dX1_fits_137 rfl rfl (by decide) rfl (fun ls hl => ?_)
    refine lv_goto (tgt := 36) X.1 X.2.1 dX1_fits_140 (by decide) ?_
    exact hk36 _ _ _ _ _ _ _ _ _ _ hF hP (lh_sub hl [1, 2, 3, 4, 5, 0] rfl)
set_option maxHeartbeats 2000000 in
theorem w_X1_fits_69 (X : CX p s m args c meth cX1_fits 6 (some .int) RX1 D dA ad A) (hlt : l.stackTraces = false) (hex : ∀ x ∈ c.exceptionTable.toList, False) {Xq : Nat → S → Prop} {Q : Int32 → S → Prop} {k27 : Nat → Int32 → Int32 → Int32 → Int32 → S → Prop} {k36 : Nat → Int32 → Int32 → Int32 → Int32 → Int32 → S → Prop} (hk27 : ∀ (x0 : Nat) (x1 : Int32) (x2 : Int32) (x3 : Int32) (x4 : Int32) (ι : S) (H : Heap) (locs : List Loc) (ls : Array Slot), k27 x0 x1 x2 x3 x4 ι → PW D dA A s.heap ad (HS g ι) H locs → LH ad ls 6 [(0, pX x0), (1, iX x1), (2, iX x2), (3, iX x3), (4, iX x4)] → WEi p l e ({ frames := 2108, cells := 1, slots := 6, locals := 44981 } : Room) s m args below meth c D dA ad A g Q Xq 1 6 H locs 1 6 (F0 m 27 ls [])) (hk36 : ∀ (x0 : Nat) (x1 : Int32) (x2 : Int32) (x3 : Int32) (x4 : Int32) (x5 : Int32) (ι : S) (H : Heap) (locs : List Loc) (ls : Array Slot), k36 x0 x1 x2 x3 x4 x5 ι → PW D dA A s.heap ad (HS g ι) H locs → LH ad ls 6 [(0, pX x0), (1, iX x1), (2, iX x2), (3, iX x3), (4, iX x4), (5, iX x5)] → WEi p l e ({ frames := 2108, cells := 1, slots := 6, locals := 44981 } : Room) s m args below meth c D dA ad A g Q Xq 1 6 H locs 1 6 (F0 m 36 ls [])) : ∀ (y0 : Nat) (y1 : Int32) (x0 : Nat) (x1 : Int32) (x2 : Int32) (x3 : Int32) (x4 : Int32) (x5 : Int32) (ι : S) (H : Heap) (locs : List Loc) (ls : Array Slot), P_X1_fits_69 g Xq Q k27 k36 y0 y1 x0 x1 x2 x3 x4 x5 ι → PW D dA A s.heap ad (HS g ι) H locs → LH ad ls 6 [(0, pX x0), (1, iX x1), (2, iX x2), (3, iX x3), (4, iX x4), (5, iX x5)] → WEi p l e ({ frames := 2108, cells := 1, slots := 6, locals := 44981 } : Room) s m args below meth c D dA ad A g Q Xq 1 6 H locs 1 6 (F0 m 69 ls [.int y1, rv ad y0]) := by
  intro y0 y1 x0 x1 x2 x3 x4 x5 ι H locs ls hF hP hl
  unfold P_X1_fits_69 at hF
  obtain ⟨hm9, hF⟩ := hF
  refine cg_putiN 5 5 X in_X6 tyX6 tyX6_ok nmX6 hP hm9 q596 dX1_fits_69 hF (fun H locs ι10 hP hF => ?_)
  refine ph_aload_n (n := 0) X hl dX1_fits_72 rfl rfl ?_
  obtain ⟨hm11, hF⟩ := hF
  refine cg_getr 1 4 X in_X1 hP hm11 q803 dX1_fits_73 ?_
  refine ph_iload (n := 5) X hl dX1_fits_76 rfl ?_
  refine lv_if_ne (tgt := 85) X.1 X.2.1 dX1_fits_78 (by decide) (fun c14 => ?_) (fun c14 => ?_)
  · have hF := hF.1 c14
    refine ph_aload_n (n := 0) X hl dX1_fits_85 rfl rfl ?_
    refine cg_getr 1 3 X in_X1 hP hm11 q802 dX1_fits_86 ?_
    obtain ⟨hm12, hF⟩ := hF
    refine cg_getiN 5 4 X in_X6 hP hm12 q593 dX1_fits_89 ?_
    refine lv_iconst (v := (-1)) X.1 X.2.1 dX1_fits_92 (by decide) ?_
    refine lv_icmp_ne (tgt := 100) X.1 X.2.1 dX1_fits_93 (by decide) (fun c13 => ?_) (fun c13 => ?_)
    · have hF := hF.1 c13
      refine ph_aload_n (n := 0) X hl dX1_fits_100 rfl rfl ?_
      refine cg_getr 1 3 X in_X1 hP hm11 q802 dX1_fits_101 ?_
      refine cg_getiN 5 4 X in_X6 hP hm12 q593 dX1_fits_104 ?_
      exact w_X1_fits_107 X hlt hex hk27 hk36 _ _ _ _ _ _ _ _ _ _ _ _ hF hP hl
    · have hF := hF.2 c13
      refine lv_iconst (v := 0) X.1 X.2.1 dX1_fits_96 (by decide) ?_
      refine lv_goto (tgt := 107) X.1 X.2.1 dX1_fits_97 (by decide) ?_
      exact w_X1_fits_107 X hlt hex hk27 hk36 _ _ _ _ _ _ _ _ _ _ _ _ hF hP hl
  · have hF := hF.2 c14
    refine lv_iconst (v := (-1)) X.1 X.2.1 dX1_fits_81 (by decide) ?_
    refine lv_goto (tgt := 107) X.1 X.2.1 dX1_fits_82 (by decide) ?_
    exact w_X1_fits_107 X hlt hex hk27 hk36 _ _ _ _ _ _ _ _ _ _ _ _ hF hP hl
set_option maxHeartbeats 2000000 in
theorem w_X1_fits_36 (X : CX p s m args c meth cX1_fits 6 (some .int) RX1 D dA ad A) (hlt : l.stackTraces = false) (hex : ∀ x ∈ c.exceptionTable.toList, False) {Xq : Nat → S → Prop} {Q : Int32 → S → Prop} {k27 : Nat → Int32 → Int32 → Int32 → Int32 → S → Prop} (hk27 : ∀ (x0 : Nat) (x1 : Int32) (x2 : Int32) (x3 : Int32) (x4 : Int32) (ι : S) (H : Heap) (locs : List Loc) (ls : Array Slot), k27 x0 x1 x2 x3 x4 ι → PW D dA A s.heap ad (HS g ι) H locs → LH ad ls 6 [(0, pX x0), (1, iX x1), (2, iX x2), (3, iX x3), (4, iX x4)] → WEi p l e ({ frames := 2108, cells := 1, slots := 6, locals := 44981 } : Room) s m args below meth c D dA ad A g Q Xq 1 6 H locs 1 6 (F0 m 27 ls [])) : ∀ (n : Nat) (x0 : Nat) (x1 : Int32) (x2 : Int32) (x3 : Int32) (x4 : Int32) (x5 : Int32) (ι : S) (H : Heap) (locs : List Loc) (ls : Array Slot), P_X1_fits_36 g Xq Q k27 n x0 x1 x2 x3 x4 x5 ι → PW D dA A s.heap ad (HS g ι) H locs → LH ad ls 6 [(0, pX x0), (1, iX x1), (2, iX x2), (3, iX x3), (4, iX x4), (5, iX x5)] → WEi p l e ({ frames := 2108, cells := 1, slots := 6, locals := 44981 } : Room) s m args below meth c D dA ad A g Q Xq 1 6 H locs 1 6 (F0 m 36 ls []) := by
  intro n
  induction n with
  | zero =>
    intro x0 x1 x2 x3 x4 x5 ι H locs ls hF
    exact hF.elim
  | succ n ih =>
    intro x0 x1 x2 x3 x4 x5 ι H locs ls hF hP hl
    rw [P_X1_fits_36] at hF
    refine ph_iload (n := 5) X hl dX1_fits_36 rfl ?_
    refine lv_bipush (v := 60) X.1 X.2.1 dX1_fits_38 (by decide) ?_
    refine lv_icmp_gt (tgt := 143) X.1 X.2.1 dX1_fits_40 (by decide) (fun c22 => ?_) (fun c22 => ?_)
    · have hF := hF.1 c22
      refine ph_iinc (v := x4 + 1) (k := 4) X hl dX1_fits_143 rfl rfl (by decide) rfl (fun ls hl => ?_)
      refine lv_goto (tgt := 27) X.1 X.2.1 dX1_fits_146 (by decide) ?_
      exact hk27 _ _ _ _ _ _ _ _ _ hF hP (lh_sub hl [1, 2, 3, 4, 0] rfl)
    · have hF := hF.2 c22
      refine ph_aload_n (n := 0) X hl dX1_fits_43 rfl rfl ?_
      obtain ⟨hm15, hF⟩ := hF
      refine cg_getr 1 4 X in_X1 hP hm15 q803 dX1_fits_44 ?_
      refine ph_iload (n := 4) X hl dX1_fits_47 rfl ?_
      obtain ⟨hm16, hF⟩ := hF
      refine cg_putiN 5 3 X in_X6 tyX6 tyX6_ok nmX6 hP hm16 q590 dX1_fits_49 hF (fun H locs ι17 hP hF => ?_)
      refine ph_aload_n (n := 0) X hl dX1_fits_52 rfl rfl ?_
      refine cg_getr 1 4 X in_X1 hP hm15 q803 dX1_fits_53 ?_
      refine ph_aload_n (n := 0) X hl dX1_fits_56 rfl rfl ?_
      refine cg_callVi 1 [] X hP hm15 (met_X1_sleepers l D dA ad g _ _ hF) (cwV 0 X.2.2.2.2.1 (lw_V q883 q885 qs6 q98 q886) rfl rfl rfl (by decide +kernel) ⟨Nat.le_of_ble_eq_true rfl, Nat.le_of_ble_eq_true rfl⟩) rfl hl (k8 := 1) (csr (cs0 (k := 0))) (by decide) ⟨(Nat.le_of_ble_eq_true rfl), (Nat.le_of_ble_eq_true rfl)⟩ dX1_fits_57 rfl (fun r18 ι19 H locs hF hP => ?_)
      refine lv_if_ne (tgt := 67) X.1 X.2.1 dX1_fits_60 (by decide) (fun c21 => ?_) (fun c21 => ?_)
      · have hF := hF.1 c21
        refine ph_iload (n := 5) X hl dX1_fits_67 rfl ?_
        exact w_X1_fits_69 X hlt hex hk27 ih _ _ _ _ _ _ _ _ _ _ _ _ hF hP hl
      · have hF := hF.2 c21
        refine lv_iconst (v := 0) X.1 X.2.1 dX1_fits_63 (by decide) ?_
        refine lv_goto (tgt := 69) X.1 X.2.1 dX1_fits_64 (by decide) ?_
        exact w_X1_fits_69 X hlt hex hk27 ih _ _ _ _ _ _ _ _ _ _ _ _ hF hP hl
set_option maxHeartbeats 2000000 in
theorem w_X1_fits_27 (X : CX p s m args c meth cX1_fits 6 (some .int) RX1 D dA ad A) (hlt : l.stackTraces = false) (hex : ∀ x ∈ c.exceptionTable.toList, False) {Xq : Nat → S → Prop} {Q : Int32 → S → Prop} : ∀ (n : Nat) (x0 : Nat) (x1 : Int32) (x2 : Int32) (x3 : Int32) (x4 : Int32) (ι : S) (H : Heap) (locs : List Loc) (ls : Array Slot), P_X1_fits_27 g Xq Q n x0 x1 x2 x3 x4 ι → PW D dA A s.heap ad (HS g ι) H locs → LH ad ls 6 [(0, pX x0), (1, iX x1), (2, iX x2), (3, iX x3), (4, iX x4)] → WEi p l e ({ frames := 2108, cells := 1, slots := 6, locals := 44981 } : Room) s m args below meth c D dA ad A g Q Xq 1 6 H locs 1 6 (F0 m 27 ls []) := by
  intro n
  induction n with
  | zero =>
    intro x0 x1 x2 x3 x4 ι H locs ls hF
    exact hF.elim
  | succ n ih =>
    intro x0 x1 x2 x3 x4 ι H locs ls hF hP hl
    rw [P_X1_fits_27] at hF
    refine ph_iload (n := 4) X hl dX1_fits_27 rfl ?_
    refine lv_iconst (v := 2) X.1 X.2.1 dX1_fits_29 (by decide) ?_
    refine lv_icmp_ge (tgt := 149) X.1 X.2.1 dX1_fits_30 (by decide) (fun c24 => ?_) (fun c24 => ?_)
    · have hF := hF.1 c24
      refine ph_iload_n (n := 1) X hl dX1_fits_149 rfl rfl ?_
      refine lv_if_ne (tgt := 157) X.1 X.2.1 dX1_fits_150 (by decide) (fun c23 => ?_) (fun c23 => ?_)
      · have hF := hF.1 c23
        refine ph_iload_n (n := 3) X hl dX1_fits_157 rfl rfl ?_
        exact xg_iret X hP hF (Nat.le_of_ble_eq_true rfl) (Nat.le_of_ble_eq_true rfl) dX1_fits_158
      · have hF := hF.2 c23
        refine ph_iload_n (n := 2) X hl dX1_fits_153 rfl rfl ?_
        refine lv_goto (tgt := 158) X.1 X.2.1 dX1_fits_154 (by decide) ?_
        exact xg_iret X hP hF (Nat.le_of_ble_eq_true rfl) (Nat.le_of_ble_eq_true rfl) dX1_fits_158
    · have hF := hF.2 c24
      refine lv_iconst (v := 0) X.1 X.2.1 dX1_fits_33 (by decide) ?_
      refine ph_istore X hl dX1_fits_34 (by decide) rfl (fun ls hl => ?_)
      obtain ⟨n9, hF⟩ := hF
      exact w_X1_fits_36 X hlt hex ih n9 _ _ _ _ _ _ _ _ _ _ hF hP (lh_sub hl [1, 2, 3, 4, 5, 0] rfl)
set_option maxHeartbeats 2000000 in
theorem met_X1_fits (l : Launch) (D : va_G) (dA : Nat → ClassId) (ad : Nat → Nat) (g : GT) (hlt : l.stackTraces = false) (ι : S) (sz : Nat) {a0 : Nat} {a1 : Int32} {Q : Int32 → S → Prop} {Xq : Nat → S → Prop} (hF : P_X1_fits g Xq a0 a1 ι Q) : CEi l yX1_fits cX1_fits 6 .int ({ frames := 2108, cells := 1, slots := 6, locals := 44981 } : Room) D dA ad g ι sz [pX a0, iX a1] Q Xq 1 6 := by
  unfold P_X1_fits at hF
  refine xg_enter [pX a0, iX a1] (Qc := fun A => va_Qi (GQi g Q) (CB D dA ad A) A) (XC := fun A => XCC D dA ad g A Xq) (by decide +kernel) (Nat.le_of_ble_eq_true rfl) ?_
  intro p e s m args below meth c A ls X hP hl hex
  have hl : LH ad ls 6 [(0, pX a0), (1, iX a1)] := hl
  refine ph_iload_n (n := 1) X hl dX1_fits_0 rfl rfl ?_
  refine lv_iconst (v := 0) X.1 X.2.1 dX1_fits_1 (by decide) ?_
  refine lv_iconst (v := 1) X.1 X.2.1 dX1_fits_2 (by decide) ?_
  refine cg_callSi [iX a1, iX 0, iX 1] X hP (met_X1_within l D dA ad g _ _ hF) (va_cwS 3 X.2.2.2.2.1 (lw_S q919 q920 q98 q921) rfl rfl rfl (by decide +kernel) ⟨Nat.le_of_ble_eq_true rfl, Nat.le_of_ble_eq_true rfl⟩) rfl hl (k8 := 0) (cs0 (k := 0)) (by decide) ⟨(Nat.le_of_ble_eq_true rfl), (Nat.le_of_ble_eq_true rfl)⟩ dX1_fits_3 rfl (fun r25 ι26 H locs hF hP => ?_)
  refine xg_callSv [iX r25] X hP hex (met_X1_there l D dA ad g hlt _ _ hF) (va_cwS 1 X.2.2.2.2.1 (lw_S q1556 q1557 q98 q1558) rfl rfl rfl (by decide +kernel) ⟨(Nat.le_of_ble_eq_true rfl), (Nat.le_of_ble_eq_true rfl)⟩) rfl hl (k8 := 0) (cs0 (k := 0)) (by decide) ⟨(Nat.le_of_ble_eq_true rfl), (Nat.le_of_ble_eq_true rfl)⟩ (Nat.le_of_ble_eq_true rfl) (Nat.le_of_ble_eq_true rfl) dX1_fits_6 rfl (fun ι29 H locs hF hP => ?_)
  refine ph_aload_n (n := 0) X hl dX1_fits_9 rfl rfl ?_
  obtain ⟨hm31, hF⟩ := hF
  refine cg_getr 1 4 X in_X1 hP hm31 q803 dX1_fits_10 ?_
  refine ph_aload_n (n := 0) X hl dX1_fits_13 rfl rfl ?_
  refine cg_getr 1 3 X in_X1 hP hm31 q802 dX1_fits_14 ?_
  obtain ⟨hm35, hF⟩ := hF
  refine cg_callVv 5 [pX (gR g a0 3)] X hP hm35 (met_X6_like l D dA ad g _ _ hF) (cwV 1 X.2.2.2.2.1 (lw_V q931 q907 q908 q123 q909) rfl rfl rfl (by decide +kernel) ⟨Nat.le_of_ble_eq_true rfl, Nat.le_of_ble_eq_true rfl⟩) rfl hl (k8 := 0) (cs0 (k := 0)) (by decide) ⟨(Nat.le_of_ble_eq_true rfl), (Nat.le_of_ble_eq_true rfl)⟩ dX1_fits_17 rfl (fun ι33 H locs hF hP => ?_)
  refine lv_iconst (v := 0) X.1 X.2.1 dX1_fits_20 (by decide) ?_
  refine ph_istore_n X hl dX1_fits_21 rfl (by decide) rfl (fun ls hl => ?_)
  refine lv_iconst (v := (-1)) X.1 X.2.1 dX1_fits_22 (by decide) ?_
  refine ph_istore_n X hl dX1_fits_23 rfl (by decide) rfl (fun ls hl => ?_)
  refine lv_iconst (v := 0) X.1 X.2.1 dX1_fits_24 (by decide) ?_
  refine ph_istore X hl dX1_fits_25 (by decide) rfl (fun ls hl => ?_)
  obtain ⟨n9, hF⟩ := hF
  exact w_X1_fits_27 X hlt hex n9 _ _ _ _ _ _ _ _ _ hF hP (lh_sub hl [3, 4, 2, 1, 0] rfl)
end XGA
