set_option maxRecDepth 100000
section CGA
variable {p : Program} {l : Launch} {e : Env} {s : State} {m : MethodId} {args : Array Value} {below : List Frame} {meth : Method} {c : Code} {D : va_G} {dA : Nat → ClassId} {ad : Nat → Nat} {A : Nat → Prop} {g : GT}
def P_X1_within (g : GT) (a0 : Int32) (a1 : Int32) (a2 : Int32) (ι : S) (Q : Int32 → S → Prop) : Prop := ((a0 < a1 → (Q 0 ι)) ∧ (¬ a0 < a1 → ((a2 < a0 → (Q 0 ι)) ∧ (¬ a2 < a0 → (Q 1 ι)))))
set_option maxHeartbeats 2000000 in
theorem met_X1_within (l : Launch) (D : va_G) (dA : Nat → ClassId) (ad : Nat → Nat) (g : GT) (ι : S) (sz : Nat) {a0 : Int32} {a1 : Int32} {a2 : Int32} {Q : Int32 → S → Prop} (hF : P_X1_within g a0 a1 a2 ι Q) : CGi l yX1_within cX1_within 3 .boolean ({ frames := 0, cells := 0, slots := 0, locals := 0 } : Room) D dA ad g ι sz [iX a0, iX a1, iX a2] Q := by
  unfold P_X1_within at hF
  refine ph_enter [iX a0, iX a1, iX a2] (Qc := fun A => va_Qi (GQi g Q) (CB D dA ad A) A) (by decide +kernel) (Nat.le_of_ble_eq_true rfl) ?_
  intro p e s m args below meth c A ls X hP hl hnm
  have hl : LH ad ls 3 [(0, iX a0), (1, iX a1), (2, iX a2)] := hl
  refine ph_iload_n (n := 0) X hl dX1_within_0 rfl rfl ?_
  refine ph_iload_n (n := 1) X hl dX1_within_1 rfl rfl ?_
  refine lv_icmp_lt (tgt := 14) X.1 X.2.1 dX1_within_2 (by decide) (fun c2 => ?_) (fun c2 => ?_)
  · have hF := hF.1 c2
    refine lv_iconst (v := 0) X.1 X.2.1 dX1_within_14 (by decide) ?_
    exact cg_zret X hP isB_0 hF dX1_within_15
  · have hF := hF.2 c2
    refine ph_iload_n (n := 0) X hl dX1_within_5 rfl rfl ?_
    refine ph_iload_n (n := 2) X hl dX1_within_6 rfl rfl ?_
    refine lv_icmp_gt (tgt := 14) X.1 X.2.1 dX1_within_7 (by decide) (fun c1 => ?_) (fun c1 => ?_)
    · have hF := hF.1 c1
      refine lv_iconst (v := 0) X.1 X.2.1 dX1_within_14 (by decide) ?_
      exact cg_zret X hP isB_0 hF dX1_within_15
    · have hF := hF.2 c1
      refine lv_iconst (v := 1) X.1 X.2.1 dX1_within_10 (by decide) ?_
      refine lv_goto (tgt := 15) X.1 X.2.1 dX1_within_11 (by decide) ?_
      exact cg_zret X hP isB_1 hF dX1_within_15
def P_X1_sleepers (g : GT) (a0 : Nat) (ι : S) (Q : Int32 → S → Prop) : Prop := (gK g a0 = 2 ∧ (gK g (gR g a0 0) = 3 ∧ (gK g (gR g (gR g a0 0) 6) = 18 ∧ (P_J2_size g (gR g (gR g a0 0) 6) ι (fun r3 ι4 => (Q r3 ι4))))))
set_option maxHeartbeats 2000000 in
theorem met_X1_sleepers (l : Launch) (D : va_G) (dA : Nat → ClassId) (ad : Nat → Nat) (g : GT) (ι : S) (sz : Nat) {a0 : Nat} {Q : Int32 → S → Prop} (hF : P_X1_sleepers g a0 ι Q) : CGi l yX1_sleepers cX1_sleepers 1 .int ({ frames := 1, cells := 0, slots := 0, locals := 20 } : Room) D dA ad g ι sz [pX a0] Q := by
  unfold P_X1_sleepers at hF
  refine ph_enter [pX a0] (Qc := fun A => va_Qi (GQi g Q) (CB D dA ad A) A) (by decide +kernel) (Nat.le_of_ble_eq_true rfl) ?_
  intro p e s m args below meth c A ls X hP hl hnm
  have hl : LH ad ls 1 [(0, pX a0)] := hl
  refine ph_aload_n (n := 0) X hl dX1_sleepers_0 rfl rfl ?_
  obtain ⟨hm1, hF⟩ := hF
  refine cg_getr 1 0 X in_X1 hP hm1 q799 dX1_sleepers_1 ?_
  obtain ⟨hm2, hF⟩ := hF
  refine cg_getrN 2 6 X in_X2 hP hm2 q538 dX1_sleepers_4 ?_
  obtain ⟨hm6, hF⟩ := hF
  refine cg_callVi 17 [] X hP hm6 (met_J2_size l D dA ad g _ _ hF) (cwV 0 X.2.2.2.2.1 (lw_V q887 q774 q775 q102 q776) rfl rfl rfl (by decide +kernel) ⟨Nat.le_of_ble_eq_true rfl, Nat.le_of_ble_eq_true rfl⟩) rfl hl (k8 := 0) (cs0 (k := 0)) (by decide) ⟨Nat.le_refl _, Nat.le_refl _⟩ dX1_sleepers_7 rfl (fun r3 ι4 H locs hF hP => ?_)
  exact cg_iret X hP hF dX1_sleepers_10
def P_X1_lay_3 (g : GT) (Q : S → Prop) : Nat → Nat → Int32 → Int32 → S → Prop
  | 0, _, _, _, _ => False
  | n + 1, x0, x1, x2, ι => ((x2 < 0 → (Q ι)) ∧ (¬ x2 < 0 → (gK g x0 = 2 ∧ (gK g (gR g x0 13) = 101 ∧ (vp_in (ι x0 14) (gL g (gR g x0 13)) ∧ (∀ ι3, ι3 = up2 ι (gR g x0 13) ((ι x0 14).toNatClampNeg) (vp_nar .byte ((x1 >>> ((x2 : Int32) &&& 31)).toInt8.toInt32)) → (∀ ι5, ι5 = up2 ι3 x0 14 ((ι3 x0 14) + 1) → (P_X1_lay_3 g Q  n x0 x1 (x2 + (-8)) ι5))))))))
def P_X1_lay (g : GT) (a0 : Nat) (a1 : Int32) (ι : S) (Q : S → Prop) : Prop := (∃ n9, P_X1_lay_3 g Q n9 a0 a1 24 ι)
set_option maxHeartbeats 2000000 in
theorem w_X1_lay_3 (X : CX p s m args c meth cX1_lay 3 none RX1 D dA ad A) {Q : S → Prop} : ∀ (n : Nat) (x0 : Nat) (x1 : Int32) (x2 : Int32) (ι : S) (H : Heap) (locs : List Loc) (ls : Array Slot), P_X1_lay_3 g Q n x0 x1 x2 ι → PW D dA A s.heap ad (HS g ι) H locs → LH ad ls 3 [(0, pX x0), (1, iX x1), (2, iX x2)] → WGv p l e ({ frames := 0, cells := 0, slots := 0, locals := 0 } : Room) s m args below meth c D dA ad A g Q H locs (F0 m 3 ls []) := by
  intro n
  induction n with
  | zero =>
    intro x0 x1 x2 ι H locs ls hF
    exact hF.elim
  | succ n ih =>
    intro x0 x1 x2 ι H locs ls hF hP hl
    rw [P_X1_lay_3] at hF
    refine ph_iload_n (n := 2) X hl dX1_lay_3 rfl rfl ?_
    refine lv_if_lt (tgt := 36) X.1 X.2.1 dX1_lay_4 (by decide) (fun c6 => ?_) (fun c6 => ?_)
    · have hF := hF.1 c6
      exact cg_vret X hP hF dX1_lay_36
    · have hF := hF.2 c6
      refine ph_aload_n (n := 0) X hl dX1_lay_7 rfl rfl ?_
      obtain ⟨hm1, hF⟩ := hF
      refine cg_getr 1 13 X in_X1 hP hm1 q812 dX1_lay_8 ?_
      refine ph_aload_n (n := 0) X hl dX1_lay_11 rfl rfl ?_
      refine cg_geti 1 14 X in_X1 hP hm1 q813 dX1_lay_12 ?_
      refine ph_iload_n (n := 1) X hl dX1_lay_15 rfl rfl ?_
      refine ph_iload_n (n := 2) X hl dX1_lay_16 rfl rfl ?_
      refine lv_ishr X.1 X.2.1 dX1_lay_17 ?_
      refine lv_i2b X.1 X.2.1 dX1_lay_18 rfl ?_
      obtain ⟨hm2, hF⟩ := hF
      obtain ⟨hr4, hF⟩ := hF
      refine cg_bast X hP hm2 hr4 (k := (ι x0 14).toNatClampNeg) rfl dX1_lay_19 hF (fun H locs ι3 hP hF => ?_)
      refine ph_aload_n (n := 0) X hl dX1_lay_20 rfl rfl ?_
      refine ph_dup_r X dX1_lay_21 ?_
      refine cg_geti 1 14 X in_X1 hP hm1 q813 dX1_lay_22 ?_
      refine lv_iconst (v := 1) X.1 X.2.1 dX1_lay_25 (by decide) ?_
      refine lv_iadd X.1 X.2.1 dX1_lay_26 ?_
      refine cg_puti 1 14 X in_X1 tyX1 tyX1_ok nmX1 hP hm1 q813 dX1_lay_27 hF (fun H locs ι5 hP hF => ?_)
      refine ph_iinc (v := x2 + (-8)) (k := 2) X hl dX1_lay_30 rfl rfl (by decide) rfl (fun ls hl => ?_)
      refine lv_goto (tgt := 3) X.1 X.2.1 dX1_lay_33 (by decide) ?_
      exact ih _ _ _ _ _ _ _ hF hP (lh_sub hl [1, 2, 0] rfl)
set_option maxHeartbeats 2000000 in
theorem met_X1_lay (l : Launch) (D : va_G) (dA : Nat → ClassId) (ad : Nat → Nat) (g : GT) (ι : S) (sz : Nat) {a0 : Nat} {a1 : Int32} {Q : S → Prop} (hF : P_X1_lay g a0 a1 ι Q) : CGv l yX1_lay cX1_lay 3 ({ frames := 0, cells := 0, slots := 0, locals := 0 } : Room) D dA ad g ι sz [pX a0, iX a1] Q := by
  unfold P_X1_lay at hF
  refine ph_enter [pX a0, iX a1] (Qc := fun A => va_Qv (GQv g Q) (CB D dA ad A) A) (by decide +kernel) (Nat.le_of_ble_eq_true rfl) ?_
  intro p e s m args below meth c A ls X hP hl hnm
  have hl : LH ad ls 3 [(0, pX a0), (1, iX a1)] := hl
  refine lv_bipush (v := 24) X.1 X.2.1 dX1_lay_0 (by decide) ?_
  refine ph_istore_n X hl dX1_lay_2 rfl (by decide) rfl (fun ls hl => ?_)
  obtain ⟨n9, hF⟩ := hF
  exact w_X1_lay_3 X n9 _ _ _ _ _ _ _ hF hP (lh_sub hl [1, 2, 0] rfl)
def P_X1_feed (g : GT) (a0 : Nat) (a1 : Int32) (a2 : Int32) (a3 : Int32) (a4 : Int32) (a5 : Int32) (ι : S) (Q : Int32 → S → Prop) : Prop := (gK g a0 = 2 ∧ ((((ι a0 14) + 20) ≤ 600 → (P_X1_lay g a0 a1 ι (fun ι3 => (P_X1_lay g a0 a2 ι3 (fun ι6 => (P_X1_lay g a0 a3 ι6 (fun ι9 => (P_X1_lay g a0 a4 ι9 (fun ι12 => (P_X1_lay g a0 a5 ι12 (fun ι15 => (Q (ι15 a0 14) ι15)))))))))))) ∧ (¬ ((ι a0 14) + 20) ≤ 600 → (Q (-1) ι))))
set_option maxHeartbeats 2000000 in
theorem met_X1_feed (l : Launch) (D : va_G) (dA : Nat → ClassId) (ad : Nat → Nat) (g : GT) (ι : S) (sz : Nat) {a0 : Nat} {a1 : Int32} {a2 : Int32} {a3 : Int32} {a4 : Int32} {a5 : Int32} {Q : Int32 → S → Prop} (hF : P_X1_feed g a0 a1 a2 a3 a4 a5 ι Q) : CGi l yX1_feed cX1_feed 6 .int ({ frames := 1, cells := 0, slots := 0, locals := 22 } : Room) D dA ad g ι sz [pX a0, iX a1, iX a2, iX a3, iX a4, iX a5] Q := by
  unfold P_X1_feed at hF
  refine ph_enter [pX a0, iX a1, iX a2, iX a3, iX a4, iX a5] (Qc := fun A => va_Qi (GQi g Q) (CB D dA ad A) A) (by decide +kernel) (Nat.le_of_ble_eq_true rfl) ?_
  intro p e s m args below meth c A ls X hP hl hnm
  have hl : LH ad ls 6 [(0, pX a0), (1, iX a1), (2, iX a2), (3, iX a3), (4, iX a4), (5, iX a5)] := hl
  refine ph_aload_n (n := 0) X hl dX1_feed_0 rfl rfl ?_
  obtain ⟨hm1, hF⟩ := hF
  refine cg_geti 1 14 X in_X1 hP hm1 q813 dX1_feed_1 ?_
  refine lv_bipush (v := 20) X.1 X.2.1 dX1_feed_4 (by decide) ?_
  refine lv_iadd X.1 X.2.1 dX1_feed_6 ?_
  refine lv_sipush (v := 600) X.1 X.2.1 dX1_feed_7 (by decide) ?_
  refine lv_icmp_le (tgt := 15) X.1 X.2.1 dX1_feed_10 (by decide) (fun c17 => ?_) (fun c17 => ?_)
  · have hF := hF.1 c17
    refine ph_aload_n (n := 0) X hl dX1_feed_15 rfl rfl ?_
    refine ph_iload_n (n := 1) X hl dX1_feed_16 rfl rfl ?_
    refine cg_callVv 1 [iX a1] X hP hm1 (met_X1_lay l D dA ad g _ _ hF) (cwV 1 X.2.2.2.2.1 (lw_V q867 q869 qs4 q98 q870) rfl rfl rfl (by decide +kernel) ⟨Nat.le_of_ble_eq_true rfl, Nat.le_of_ble_eq_true rfl⟩) rfl hl (k8 := 0) (cs0 (k := 0)) (by decide) ⟨Nat.le_refl _, Nat.le_refl _⟩ dX1_feed_17 rfl (fun ι3 H locs hF hP => ?_)
    refine ph_aload_n (n := 0) X hl dX1_feed_20 rfl rfl ?_
    refine ph_iload_n (n := 2) X hl dX1_feed_21 rfl rfl ?_
    refine cg_callVv 1 [iX a2] X hP hm1 (met_X1_lay l D dA ad g _ _ hF) (cwV 1 X.2.2.2.2.1 (lw_V q867 q869 qs4 q98 q870) rfl rfl rfl (by decide +kernel) ⟨Nat.le_of_ble_eq_true rfl, Nat.le_of_ble_eq_true rfl⟩) rfl hl (k8 := 0) (cs0 (k := 0)) (by decide) ⟨Nat.le_refl _, Nat.le_refl _⟩ dX1_feed_22 rfl (fun ι6 H locs hF hP => ?_)
    refine ph_aload_n (n := 0) X hl dX1_feed_25 rfl rfl ?_
    refine ph_iload_n (n := 3) X hl dX1_feed_26 rfl rfl ?_
    refine cg_callVv 1 [iX a3] X hP hm1 (met_X1_lay l D dA ad g _ _ hF) (cwV 1 X.2.2.2.2.1 (lw_V q867 q869 qs4 q98 q870) rfl rfl rfl (by decide +kernel) ⟨Nat.le_of_ble_eq_true rfl, Nat.le_of_ble_eq_true rfl⟩) rfl hl (k8 := 0) (cs0 (k := 0)) (by decide) ⟨Nat.le_refl _, Nat.le_refl _⟩ dX1_feed_27 rfl (fun ι9 H locs hF hP => ?_)
    refine ph_aload_n (n := 0) X hl dX1_feed_30 rfl rfl ?_
    refine ph_iload (n := 4) X hl dX1_feed_31 rfl ?_
    refine cg_callVv 1 [iX a4] X hP hm1 (met_X1_lay l D dA ad g _ _ hF) (cwV 1 X.2.2.2.2.1 (lw_V q867 q869 qs4 q98 q870) rfl rfl rfl (by decide +kernel) ⟨Nat.le_of_ble_eq_true rfl, Nat.le_of_ble_eq_true rfl⟩) rfl hl (k8 := 0) (cs0 (k := 0)) (by decide) ⟨Nat.le_refl _, Nat.le_refl _⟩ dX1_feed_33 rfl (fun ι12 H locs hF hP => ?_)
    refine ph_aload_n (n := 0) X hl dX1_feed_36 rfl rfl ?_
    refine ph_iload (n := 5) X hl dX1_feed_37 rfl ?_
    refine cg_callVv 1 [iX a5] X hP hm1 (met_X1_lay l D dA ad g _ _ hF) (cwV 1 X.2.2.2.2.1 (lw_V q867 q869 qs4 q98 q870) rfl rfl rfl (by decide +kernel) ⟨Nat.le_of_ble_eq_true rfl, Nat.le_of_ble_eq_true rfl⟩) rfl hl (k8 := 0) (cs0 (k := 0)) (by decide) ⟨Nat.le_refl _, Nat.le_refl _⟩ dX1_feed_39 rfl (fun ι15 H locs hF hP => ?_)
    refine ph_aload_n (n := 0) X hl dX1_feed_42 rfl rfl ?_
    refine cg_geti 1 14 X in_X1 hP hm1 q813 dX1_feed_43 ?_
    exact cg_iret X hP hF dX1_feed_46
  · have hF := hF.2 c17
    refine lv_iconst (v := (-1)) X.1 X.2.1 dX1_feed_13 (by decide) ?_
    exact cg_iret X hP hF dX1_feed_14
def P_X1_fault (g : GT) (a0 : Nat) (ι : S) (Q : Int32 → S → Prop) : Prop := (gK g a0 = 2 ∧ (Q (ι a0 15) ι))
set_option maxHeartbeats 2000000 in
theorem met_X1_fault (l : Launch) (D : va_G) (dA : Nat → ClassId) (ad : Nat → Nat) (g : GT) (ι : S) (sz : Nat) {a0 : Nat} {Q : Int32 → S → Prop} (hF : P_X1_fault g a0 ι Q) : CGi l yX1_fault cX1_fault 1 .int ({ frames := 0, cells := 0, slots := 0, locals := 0 } : Room) D dA ad g ι sz [pX a0] Q := by
  unfold P_X1_fault at hF
  refine ph_enter [pX a0] (Qc := fun A => va_Qi (GQi g Q) (CB D dA ad A) A) (by decide +kernel) (Nat.le_of_ble_eq_true rfl) ?_
  intro p e s m args below meth c A ls X hP hl hnm
  have hl : LH ad ls 1 [(0, pX a0)] := hl
  refine ph_aload_n (n := 0) X hl dX1_fault_0 rfl rfl ?_
  obtain ⟨hm1, hF⟩ := hF
  refine cg_geti 1 15 X in_X1 hP hm1 q814 dX1_fault_1 ?_
  exact cg_iret X hP hF dX1_fault_4
def P_X1_refuses (g : GT) (a0 : Nat) (a1 : Int32) (ι : S) (Q : Int32 → S → Prop) : Prop := (gK g a0 = 2 ∧ (gK g (gR g a0 1) = 5 ∧ (gK g (gR g (gR g a0 1) 5) = 100 ∧ (vp_in a1 (gL g (gR g (gR g a0 1) 5)) ∧ (vp_in a1 (gL g (gR g (gR g a0 1) 5)) ∧ (∀ ι5, ι5 = up2 ι (gR g (gR g a0 1) 5) a1.toNatClampNeg ((ι (gR g (gR g a0 1) 5) a1.toNatClampNeg) + 1) → (Q (-1) ι5)))))))
set_option maxHeartbeats 2000000 in
theorem met_X1_refuses (l : Launch) (D : va_G) (dA : Nat → ClassId) (ad : Nat → Nat) (g : GT) (ι : S) (sz : Nat) {a0 : Nat} {a1 : Int32} {Q : Int32 → S → Prop} (hF : P_X1_refuses g a0 a1 ι Q) : CGi l yX1_refuses cX1_refuses 2 .int ({ frames := 0, cells := 0, slots := 0, locals := 0 } : Room) D dA ad g ι sz [pX a0, iX a1] Q := by
  unfold P_X1_refuses at hF
  refine ph_enter [pX a0, iX a1] (Qc := fun A => va_Qi (GQi g Q) (CB D dA ad A) A) (by decide +kernel) (Nat.le_of_ble_eq_true rfl) ?_
  intro p e s m args below meth c A ls X hP hl hnm
  have hl : LH ad ls 2 [(0, pX a0), (1, iX a1)] := hl
  refine ph_aload_n (n := 0) X hl dX1_refuses_0 rfl rfl ?_
  obtain ⟨hm1, hF⟩ := hF
  refine cg_getr 1 1 X in_X1 hP hm1 q800 dX1_refuses_1 ?_
  obtain ⟨hm2, hF⟩ := hF
  refine cg_getrN 4 5 X in_X5 hP hm2 q687 dX1_refuses_4 ?_
  refine ph_iload_n (n := 1) X hl dX1_refuses_7 rfl rfl ?_
  refine ph_dup2_ir X dX1_refuses_8 ?_
  obtain ⟨hm3, hF⟩ := hF
  obtain ⟨hr4, hF⟩ := hF
  refine cg_iald X hP hm3 hr4 (k := a1.toNatClampNeg) rfl dX1_refuses_9 ?_
  refine lv_iconst (v := 1) X.1 X.2.1 dX1_refuses_10 (by decide) ?_
  refine lv_iadd X.1 X.2.1 dX1_refuses_11 ?_
  obtain ⟨hr6, hF⟩ := hF
  refine cg_iast X hP hm3 hr6 (k := a1.toNatClampNeg) rfl dX1_refuses_12 hF (fun H locs ι5 hP hF => ?_)
  refine lv_iconst (v := (-1)) X.1 X.2.1 dX1_refuses_13 (by decide) ?_
  exact cg_iret X hP hF dX1_refuses_14
def P_X1_isPlace (g : GT) (a0 : Nat) (a1 : Int32) (ι : S) (Q : Int32 → S → Prop) : Prop := ((a1 < 0 → (Q 0 ι)) ∧ (¬ a1 < 0 → (gK g a0 = 2 ∧ (P_X1_sleepers g a0 ι (fun r1 ι2 => ((r1 ≤ a1 → (Q 0 ι2)) ∧ (¬ r1 ≤ a1 → (Q 1 ι2))))))))
set_option maxHeartbeats 2000000 in
theorem met_X1_isPlace (l : Launch) (D : va_G) (dA : Nat → ClassId) (ad : Nat → Nat) (g : GT) (ι : S) (sz : Nat) {a0 : Nat} {a1 : Int32} {Q : Int32 → S → Prop} (hF : P_X1_isPlace g a0 a1 ι Q) : CGi l yX1_isPlace cX1_isPlace 2 .boolean ({ frames := 2, cells := 0, slots := 0, locals := 40 } : Room) D dA ad g ι sz [pX a0, iX a1] Q := by
  unfold P_X1_isPlace at hF
  refine ph_enter [pX a0, iX a1] (Qc := fun A => va_Qi (GQi g Q) (CB D dA ad A) A) (by decide +kernel) (Nat.le_of_ble_eq_true rfl) ?_
  intro p e s m args below meth c A ls X hP hl hnm
  have hl : LH ad ls 2 [(0, pX a0), (1, iX a1)] := hl
  refine ph_iload_n (n := 1) X hl dX1_isPlace_0 rfl rfl ?_
  refine lv_if_lt (tgt := 16) X.1 X.2.1 dX1_isPlace_1 (by decide) (fun c6 => ?_) (fun c6 => ?_)
  · have hF := hF.1 c6
    refine lv_iconst (v := 0) X.1 X.2.1 dX1_isPlace_16 (by decide) ?_
    exact cg_zret X hP isB_0 hF dX1_isPlace_17
  · have hF := hF.2 c6
    refine ph_iload_n (n := 1) X hl dX1_isPlace_4 rfl rfl ?_
    refine ph_aload_n (n := 0) X hl dX1_isPlace_5 rfl rfl ?_
    obtain ⟨hm4, hF⟩ := hF
    refine cg_callVi 1 [] X hP hm4 (met_X1_sleepers l D dA ad g _ _ hF) (cwV 0 X.2.2.2.2.1 (lw_V q883 q885 qs6 q98 q886) rfl rfl rfl (by decide +kernel) ⟨Nat.le_of_ble_eq_true rfl, Nat.le_of_ble_eq_true rfl⟩) rfl hl (k8 := 1) (csi (cs0 (k := 0))) (by decide) ⟨Nat.le_refl _, Nat.le_refl _⟩ dX1_isPlace_6 rfl (fun r1 ι2 H locs hF hP => ?_)
    refine lv_icmp_ge (tgt := 16) X.1 X.2.1 dX1_isPlace_9 (by decide) (fun c5 => ?_) (fun c5 => ?_)
    · have hF := hF.1 c5
      refine lv_iconst (v := 0) X.1 X.2.1 dX1_isPlace_16 (by decide) ?_
      exact cg_zret X hP isB_0 hF dX1_isPlace_17
    · have hF := hF.2 c5
      refine lv_iconst (v := 1) X.1 X.2.1 dX1_isPlace_12 (by decide) ?_
      refine lv_goto (tgt := 17) X.1 X.2.1 dX1_isPlace_13 (by decide) ?_
      exact cg_zret X hP isB_1 hF dX1_isPlace_17
def P_X1_tries (g : GT) (a0 : Nat) (ι : S) (Q : Int32 → S → Prop) : Prop := (gK g a0 = 2 ∧ (gK g (gR g a0 11) = 7 ∧ (P_X7_all g (gR g a0 11) ι (fun ι3 => (P_X7_wokenAll g (gR g a0 11) ι3 (fun r6 ι7 => (Q r6 ι7)))))))
set_option maxHeartbeats 2000000 in
theorem met_X1_tries (l : Launch) (D : va_G) (dA : Nat → ClassId) (ad : Nat → Nat) (g : GT) (ι : S) (sz : Nat) {a0 : Nat} {Q : Int32 → S → Prop} (hF : P_X1_tries g a0 ι Q) : CGi l yX1_tries cX1_tries 1 .int ({ frames := 2109, cells := 0, slots := 0, locals := 45001 } : Room) D dA ad g ι sz [pX a0] Q := by
  unfold P_X1_tries at hF
  refine ph_enter [pX a0] (Qc := fun A => va_Qi (GQi g Q) (CB D dA ad A) A) (by decide +kernel) (Nat.le_of_ble_eq_true rfl) ?_
  intro p e s m args below meth c A ls X hP hl hnm
  have hl : LH ad ls 1 [(0, pX a0)] := hl
  refine ph_aload_n (n := 0) X hl dX1_tries_0 rfl rfl ?_
  obtain ⟨hm1, hF⟩ := hF
  refine cg_getr 1 11 X in_X1 hP hm1 q810 dX1_tries_1 ?_
  obtain ⟨hm5, hF⟩ := hF
  refine cg_callVv 6 [] X hP hm5 (met_X7_all l D dA ad g _ _ hF) (cwV 0 X.2.2.2.2.1 (lw_V q961 q962 q963 q124 q964) rfl rfl rfl (by decide +kernel) ⟨Nat.le_of_ble_eq_true rfl, Nat.le_of_ble_eq_true rfl⟩) rfl hl (k8 := 0) (cs0 (k := 0)) (by decide) ⟨Nat.le_refl _, Nat.le_refl _⟩ dX1_tries_4 rfl (fun ι3 H locs hF hP => ?_)
  refine ph_aload_n (n := 0) X hl dX1_tries_7 rfl rfl ?_
  refine cg_getr 1 11 X in_X1 hP hm1 q810 dX1_tries_8 ?_
  refine cg_callVi 6 [] X hP hm5 (met_X7_wokenAll l D dA ad g _ _ hF) (cwV 0 X.2.2.2.2.1 (lw_V q1117 q1118 q1119 q124 q1120) rfl rfl rfl (by decide +kernel) ⟨Nat.le_of_ble_eq_true rfl, Nat.le_of_ble_eq_true rfl⟩) rfl hl (k8 := 0) (cs0 (k := 0)) (by decide) ⟨Nat.le_refl _, Nat.le_refl _⟩ dX1_tries_11 rfl (fun r6 ι7 H locs hF hP => ?_)
  exact cg_iret X hP hF dX1_tries_14
def P_X1_firstRow_2 (g : GT) (Q : S → Prop) : Nat → Nat → Int32 → S → Prop
  | 0, _, _, _ => False
  | n + 1, x0, x1, ι => (gK g x0 = 2 ∧ (P_X1_sleepers g x0 ι (fun r1 ι2 => ((r1 ≤ x1 → (Q ι2)) ∧ (¬ r1 ≤ x1 → (gK g (gR g x0 16) = 100 ∧ (vp_in x1 (gL g (gR g x0 16)) ∧ (∀ ι6, ι6 = up2 ι2 (gR g x0 16) x1.toNatClampNeg x1 → (P_X1_firstRow_2 g Q  n x0 (x1 + 1) ι6)))))))))
def P_X1_firstRow (g : GT) (a0 : Nat) (ι : S) (Q : S → Prop) : Prop := (∃ n9, P_X1_firstRow_2 g Q n9 a0 0 ι)
set_option maxHeartbeats 2000000 in
theorem w_X1_firstRow_2 (X : CX p s m args c meth cX1_firstRow 2 none RX1 D dA ad A) {Q : S → Prop} : ∀ (n : Nat) (x0 : Nat) (x1 : Int32) (ι : S) (H : Heap) (locs : List Loc) (ls : Array Slot), P_X1_firstRow_2 g Q n x0 x1 ι → PW D dA A s.heap ad (HS g ι) H locs → LH ad ls 2 [(0, pX x0), (1, iX x1)] → WGv p l e ({ frames := 2, cells := 0, slots := 0, locals := 40 } : Room) s m args below meth c D dA ad A g Q H locs (F0 m 2 ls []) := by
  intro n
  induction n with
  | zero =>
    intro x0 x1 ι H locs ls hF
    exact hF.elim
  | succ n ih =>
    intro x0 x1 ι H locs ls hF hP hl
    rw [P_X1_firstRow_2] at hF
    refine ph_iload_n (n := 1) X hl dX1_firstRow_2 rfl rfl ?_
    refine ph_aload_n (n := 0) X hl dX1_firstRow_3 rfl rfl ?_
    obtain ⟨hm4, hF⟩ := hF
    refine cg_callVi 1 [] X hP hm4 (met_X1_sleepers l D dA ad g _ _ hF) (cwV 0 X.2.2.2.2.1 (lw_V q883 q885 qs6 q98 q886) rfl rfl rfl (by decide +kernel) ⟨Nat.le_of_ble_eq_true rfl, Nat.le_of_ble_eq_true rfl⟩) rfl hl (k8 := 1) (csi (cs0 (k := 0))) (by decide) ⟨Nat.le_refl _, Nat.le_refl _⟩ dX1_firstRow_4 rfl (fun r1 ι2 H locs hF hP => ?_)
    refine lv_icmp_ge (tgt := 23) X.1 X.2.1 dX1_firstRow_7 (by decide) (fun c8 => ?_) (fun c8 => ?_)
    · have hF := hF.1 c8
      exact cg_vret X hP hF dX1_firstRow_23
    · have hF := hF.2 c8
      refine ph_aload_n (n := 0) X hl dX1_firstRow_10 rfl rfl ?_
      refine cg_getr 1 16 X in_X1 hP hm4 q815 dX1_firstRow_11 ?_
      refine ph_iload_n (n := 1) X hl dX1_firstRow_14 rfl rfl ?_
      refine ph_iload_n (n := 1) X hl dX1_firstRow_15 rfl rfl ?_
      obtain ⟨hm5, hF⟩ := hF
      obtain ⟨hr7, hF⟩ := hF
      refine cg_iast X hP hm5 hr7 (k := x1.toNatClampNeg) rfl dX1_firstRow_16 hF (fun H locs ι6 hP hF => ?_)
      refine ph_iinc (v := x1 + 1) (k := 1) X hl dX1_firstRow_17 rfl rfl (by decide) rfl (fun ls hl => ?_)
      refine lv_goto (tgt := 2) X.1 X.2.1 dX1_firstRow_20 (by decide) ?_
      exact ih _ _ _ _ _ _ hF hP (lh_sub hl [1, 0] rfl)
set_option maxHeartbeats 2000000 in
theorem met_X1_firstRow (l : Launch) (D : va_G) (dA : Nat → ClassId) (ad : Nat → Nat) (g : GT) (ι : S) (sz : Nat) {a0 : Nat} {Q : S → Prop} (hF : P_X1_firstRow g a0 ι Q) : CGv l yX1_firstRow cX1_firstRow 2 ({ frames := 2, cells := 0, slots := 0, locals := 40 } : Room) D dA ad g ι sz [pX a0] Q := by
  unfold P_X1_firstRow at hF
  refine ph_enter [pX a0] (Qc := fun A => va_Qv (GQv g Q) (CB D dA ad A) A) (by decide +kernel) (Nat.le_of_ble_eq_true rfl) ?_
  intro p e s m args below meth c A ls X hP hl hnm
  have hl : LH ad ls 2 [(0, pX a0)] := hl
  refine lv_iconst (v := 0) X.1 X.2.1 dX1_firstRow_0 (by decide) ?_
  refine ph_istore_n X hl dX1_firstRow_1 rfl (by decide) rfl (fun ls hl => ?_)
  obtain ⟨n9, hF⟩ := hF
  exact w_X1_firstRow_2 X n9 _ _ _ _ _ _ hF hP (lh_sub hl [1, 0] rfl)
def P_X1_changes (g : GT) (a0 : Nat) (a1 : Int32) (a2 : Int32) (ι : S) (Q : S → Prop) : Prop := (gK g a0 = 2 ∧ (gK g (gR g a0 16) = 100 ∧ (vp_in a1 (gL g (gR g a0 16)) ∧ (vp_in a2 (gL g (gR g a0 16)) ∧ (vp_in a1 (gL g (gR g a0 16)) ∧ (∀ ι5, ι5 = up2 ι (gR g a0 16) a1.toNatClampNeg (ι (gR g a0 16) a2.toNatClampNeg) → (vp_in a2 (gL g (gR g a0 16)) ∧ (∀ ι7, ι7 = up2 ι5 (gR g a0 16) a2.toNatClampNeg (ι (gR g a0 16) a1.toNatClampNeg) → (Q ι7)))))))))
set_option maxHeartbeats 2000000 in
theorem met_X1_changes (l : Launch) (D : va_G) (dA : Nat → ClassId) (ad : Nat → Nat) (g : GT) (ι : S) (sz : Nat) {a0 : Nat} {a1 : Int32} {a2 : Int32} {Q : S → Prop} (hF : P_X1_changes g a0 a1 a2 ι Q) : CGv l yX1_changes cX1_changes 4 ({ frames := 0, cells := 0, slots := 0, locals := 0 } : Room) D dA ad g ι sz [pX a0, iX a1, iX a2] Q := by
  unfold P_X1_changes at hF
  refine ph_enter [pX a0, iX a1, iX a2] (Qc := fun A => va_Qv (GQv g Q) (CB D dA ad A) A) (by decide +kernel) (Nat.le_of_ble_eq_true rfl) ?_
  intro p e s m args below meth c A ls X hP hl hnm
  have hl : LH ad ls 4 [(0, pX a0), (1, iX a1), (2, iX a2)] := hl
  refine ph_aload_n (n := 0) X hl dX1_changes_0 rfl rfl ?_
  obtain ⟨hm1, hF⟩ := hF
  refine cg_getr 1 16 X in_X1 hP hm1 q815 dX1_changes_1 ?_
  refine ph_iload_n (n := 1) X hl dX1_changes_4 rfl rfl ?_
  obtain ⟨hm2, hF⟩ := hF
  obtain ⟨hr3, hF⟩ := hF
  refine cg_iald X hP hm2 hr3 (k := a1.toNatClampNeg) rfl dX1_changes_5 ?_
  refine ph_istore_n X hl dX1_changes_6 rfl (by decide) rfl (fun ls hl => ?_)
  refine ph_aload_n (n := 1) X hl dX1_changes_7 rfl rfl ?_
  refine cg_getr 1 16 X in_X1 hP hm1 q815 dX1_changes_8 ?_
  refine ph_iload_n (n := 2) X hl dX1_changes_11 rfl rfl ?_
  refine ph_aload_n (n := 1) X hl dX1_changes_12 rfl rfl ?_
  refine cg_getr 1 16 X in_X1 hP hm1 q815 dX1_changes_13 ?_
  refine ph_iload_n (n := 3) X hl dX1_changes_16 rfl rfl ?_
  obtain ⟨hr4, hF⟩ := hF
  refine cg_iald X hP hm2 hr4 (k := a2.toNatClampNeg) rfl dX1_changes_17 ?_
  obtain ⟨hr6, hF⟩ := hF
  refine cg_iast X hP hm2 hr6 (k := a1.toNatClampNeg) rfl dX1_changes_18 hF (fun H locs ι5 hP hF => ?_)
  refine ph_aload_n (n := 1) X hl dX1_changes_19 rfl rfl ?_
  refine cg_getr 1 16 X in_X1 hP hm1 q815 dX1_changes_20 ?_
  refine ph_iload_n (n := 3) X hl dX1_changes_23 rfl rfl ?_
  refine ph_iload_n (n := 0) X hl dX1_changes_24 rfl rfl ?_
  obtain ⟨hr8, hF⟩ := hF
  refine cg_iast X hP hm2 hr8 (k := a2.toNatClampNeg) rfl dX1_changes_25 hF (fun H locs ι7 hP hF => ?_)
  exact cg_vret X hP hF dX1_changes_26
def P_X1_nextRow_86 (g : GT) (Q : Int32 → S → Prop) : Nat → Nat → Int32 → Int32 → S → Prop
  | 0, _, _, _, _ => False
  | n + 1, x0, x3, x4, ι => ((x4 ≤ x3 → (Q 1 ι)) ∧ (¬ x4 ≤ x3 → (gK g x0 = 2 ∧ (P_X1_changes g x0 x3 x4 ι (fun ι2 => (P_X1_nextRow_86 g Q  n x0 (x3 + 1) (x4 + (-1)) ι2))))))
def P_X1_nextRow_47 (g : GT) (Q : Int32 → S → Prop) : Nat → Nat → Int32 → Int32 → S → Prop
  | 0, _, _, _, _ => False
  | n + 1, x0, x1, x2, ι => (gK g x0 = 2 ∧ (gK g (gR g x0 16) = 100 ∧ (vp_in x2 (gL g (gR g x0 16)) ∧ (vp_in x1 (gL g (gR g x0 16)) ∧ (((ι (gR g x0 16) x1.toNatClampNeg) ≤ (ι (gR g x0 16) x2.toNatClampNeg) → (P_X1_changes g x0 x1 x2 ι (fun ι11 => (P_X1_sleepers g x0 ι11 (fun r13 ι14 => (∃ n9, P_X1_nextRow_86 g Q n9 x0 (x1 + 1) (r13 - 1) ι14)))))) ∧ (¬ (ι (gR g x0 16) x1.toNatClampNeg) ≤ (ι (gR g x0 16) x2.toNatClampNeg) → (P_X1_nextRow_47 g Q  n x0 x1 (x2 + (-1)) ι)))))))
def P_X1_nextRow_34 (g : GT) (Q : Int32 → S → Prop) (x0 : Nat) (x1 : Int32) (ι : S) : Prop := ((0 ≤ x1 → (gK g x0 = 2 ∧ (P_X1_sleepers g x0 ι (fun r17 ι18 => (∃ n9, P_X1_nextRow_47 g Q n9 x0 x1 (r17 - 1) ι18))))) ∧ (¬ 0 ≤ x1 → (Q 0 ι)))
def P_X1_nextRow_7 (g : GT) (Q : Int32 → S → Prop) : Nat → Nat → Int32 → S → Prop
  | 0, _, _, _ => False
  | n + 1, x0, x1, ι => ((x1 < 0 → (P_X1_nextRow_34 g Q x0 x1 ι)) ∧ (¬ x1 < 0 → (gK g x0 = 2 ∧ (gK g (gR g x0 16) = 100 ∧ (vp_in x1 (gL g (gR g x0 16)) ∧ (vp_in (x1 + 1) (gL g (gR g x0 16)) ∧ (((ι (gR g x0 16) x1.toNatClampNeg) ≤ (ι (gR g x0 16) ((x1 + 1).toNatClampNeg)) → (P_X1_nextRow_34 g Q x0 x1 ι)) ∧ (¬ (ι (gR g x0 16) x1.toNatClampNeg) ≤ (ι (gR g x0 16) ((x1 + 1).toNatClampNeg)) → (P_X1_nextRow_7 g Q  n x0 (x1 + (-1)) ι)))))))))
def P_X1_nextRow (g : GT) (a0 : Nat) (ι : S) (Q : Int32 → S → Prop) : Prop := (gK g a0 = 2 ∧ (P_X1_sleepers g a0 ι (fun r28 ι29 => (∃ n9, P_X1_nextRow_7 g Q n9 a0 (r28 - 2) ι29))))
set_option maxHeartbeats 2000000 in
theorem w_X1_nextRow_86 (X : CX p s m args c meth cX1_nextRow 5 (some .boolean) RX1 D dA ad A) {Q : Int32 → S → Prop} : ∀ (n : Nat) (x0 : Nat) (x3 : Int32) (x4 : Int32) (ι : S) (H : Heap) (locs : List Loc) (ls : Array Slot), P_X1_nextRow_86 g Q n x0 x3 x4 ι → PW D dA A s.heap ad (HS g ι) H locs → LH ad ls 5 [(0, pX x0), (3, iX x3), (4, iX x4)] → WGi p l e ({ frames := 2, cells := 0, slots := 0, locals := 40 } : Room) s m args below meth c D dA ad A g Q H locs (F0 m 86 ls []) := by
  intro n
  induction n with
  | zero =>
    intro x0 x3 x4 ι H locs ls hF
    exact hF.elim
  | succ n ih =>
    intro x0 x3 x4 ι H locs ls hF hP hl
    rw [P_X1_nextRow_86] at hF
    refine ph_iload_n (n := 1) X hl dX1_nextRow_86 rfl rfl ?_
    refine ph_iload (n := 2) X hl dX1_nextRow_87 rfl ?_
    refine lv_icmp_ge (tgt := 108) X.1 X.2.1 dX1_nextRow_89 (by decide) (fun c5 => ?_) (fun c5 => ?_)
    · have hF := hF.1 c5
      refine lv_iconst (v := 1) X.1 X.2.1 dX1_nextRow_108 (by decide) ?_
      exact cg_zret X hP isB_1 hF dX1_nextRow_109
    · have hF := hF.2 c5
      refine ph_aload_n (n := 0) X hl dX1_nextRow_92 rfl rfl ?_
      refine ph_iload_n (n := 1) X hl dX1_nextRow_93 rfl rfl ?_
      refine ph_iload (n := 2) X hl dX1_nextRow_94 rfl ?_
      obtain ⟨hm4, hF⟩ := hF
      refine cg_callVv 1 [iX x3, iX x4] X hP hm4 (met_X1_changes l D dA ad g _ _ hF) (cwV 2 X.2.2.2.2.1 (lw_V q948 q950 qs12 q98 q951) rfl rfl rfl (by decide +kernel) ⟨Nat.le_of_ble_eq_true rfl, Nat.le_of_ble_eq_true rfl⟩) rfl hl (k8 := 0) (cs0 (k := 0)) (by decide) ⟨Nat.le_refl _, Nat.le_refl _⟩ dX1_nextRow_96 rfl (fun ι2 H locs hF hP => ?_)
      refine ph_iinc (v := x3 + 1) (k := 1) X hl dX1_nextRow_99 rfl rfl (by decide) rfl (fun ls hl => ?_)
      refine ph_iinc (v := x4 + (-1)) (k := 2) X hl dX1_nextRow_102 rfl rfl (by decide) rfl (fun ls hl => ?_)
      refine lv_goto (tgt := 86) X.1 X.2.1 dX1_nextRow_105 (by decide) ?_
      exact ih _ _ _ _ _ _ _ hF hP (lh_sub hl [2, 1, 0] rfl)
set_option maxHeartbeats 2000000 in
theorem w_X1_nextRow_47 (X : CX p s m args c meth cX1_nextRow 5 (some .boolean) RX1 D dA ad A) {Q : Int32 → S → Prop} : ∀ (n : Nat) (x0 : Nat) (x1 : Int32) (x2 : Int32) (ι : S) (H : Heap) (locs : List Loc) (ls : Array Slot), P_X1_nextRow_47 g Q n x0 x1 x2 ι → PW D dA A s.heap ad (HS g ι) H locs → LH ad ls 5 [(0, pX x0), (1, iX x1), (2, iX x2)] → WGi p l e ({ frames := 2, cells := 0, slots := 0, locals := 40 } : Room) s m args below meth c D dA ad A g Q H locs (F0 m 47 ls []) := by
  intro n
  induction n with
  | zero =>
    intro x0 x1 x2 ι H locs ls hF
    exact hF.elim
  | succ n ih =>
    intro x0 x1 x2 ι H locs ls hF hP hl
    rw [P_X1_nextRow_47] at hF
    refine ph_aload_n (n := 0) X hl dX1_nextRow_47 rfl rfl ?_
    obtain ⟨hm6, hF⟩ := hF
    refine cg_getr 1 16 X in_X1 hP hm6 q815 dX1_nextRow_48 ?_
    refine ph_iload_n (n := 2) X hl dX1_nextRow_51 rfl rfl ?_
    obtain ⟨hm7, hF⟩ := hF
    obtain ⟨hr8, hF⟩ := hF
    refine cg_iald X hP hm7 hr8 (k := x2.toNatClampNeg) rfl dX1_nextRow_52 ?_
    refine ph_aload_n (n := 0) X hl dX1_nextRow_53 rfl rfl ?_
    refine cg_getr 1 16 X in_X1 hP hm6 q815 dX1_nextRow_54 ?_
    refine ph_iload_n (n := 1) X hl dX1_nextRow_57 rfl rfl ?_
    obtain ⟨hr9, hF⟩ := hF
    refine cg_iald X hP hm7 hr9 (k := x1.toNatClampNeg) rfl dX1_nextRow_58 ?_
    refine lv_icmp_ge (tgt := 68) X.1 X.2.1 dX1_nextRow_59 (by decide) (fun c16 => ?_) (fun c16 => ?_)
    · have hF := hF.1 c16
      refine ph_aload_n (n := 0) X hl dX1_nextRow_68 rfl rfl ?_
      refine ph_iload_n (n := 1) X hl dX1_nextRow_69 rfl rfl ?_
      refine ph_iload_n (n := 2) X hl dX1_nextRow_70 rfl rfl ?_
      refine cg_callVv 1 [iX x1, iX x2] X hP hm6 (met_X1_changes l D dA ad g _ _ hF) (cwV 2 X.2.2.2.2.1 (lw_V q948 q950 qs12 q98 q951) rfl rfl rfl (by decide +kernel) ⟨Nat.le_of_ble_eq_true rfl, Nat.le_of_ble_eq_true rfl⟩) rfl hl (k8 := 0) (cs0 (k := 0)) (by decide) ⟨Nat.le_refl _, Nat.le_refl _⟩ dX1_nextRow_71 rfl (fun ι11 H locs hF hP => ?_)
      refine ph_iload_n (n := 1) X hl dX1_nextRow_74 rfl rfl ?_
      refine lv_iconst (v := 1) X.1 X.2.1 dX1_nextRow_75 (by decide) ?_
      refine lv_iadd X.1 X.2.1 dX1_nextRow_76 ?_
      refine ph_istore_n X hl dX1_nextRow_77 rfl (by decide) rfl (fun ls hl => ?_)
      refine ph_aload_n (n := 1) X hl dX1_nextRow_78 rfl rfl ?_
      refine cg_callVi 1 [] X hP hm6 (met_X1_sleepers l D dA ad g _ _ hF) (cwV 0 X.2.2.2.2.1 (lw_V q883 q885 qs6 q98 q886) rfl rfl rfl (by decide +kernel) ⟨Nat.le_of_ble_eq_true rfl, Nat.le_of_ble_eq_true rfl⟩) rfl hl (k8 := 0) (cs0 (k := 0)) (by decide) ⟨Nat.le_refl _, Nat.le_refl _⟩ dX1_nextRow_79 rfl (fun r13 ι14 H locs hF hP => ?_)
      refine lv_iconst (v := 1) X.1 X.2.1 dX1_nextRow_82 (by decide) ?_
      refine lv_isub X.1 X.2.1 dX1_nextRow_83 ?_
      refine ph_istore X hl dX1_nextRow_84 (by decide) rfl (fun ls hl => ?_)
      obtain ⟨n9, hF⟩ := hF
      exact w_X1_nextRow_86 X n9 _ _ _ _ _ _ _ hF hP (lh_sub hl [2, 1, 0] rfl)
    · have hF := hF.2 c16
      refine ph_iinc (v := x2 + (-1)) (k := 2) X hl dX1_nextRow_62 rfl rfl (by decide) rfl (fun ls hl => ?_)
      refine lv_goto (tgt := 47) X.1 X.2.1 dX1_nextRow_65 (by decide) ?_
      exact ih _ _ _ _ _ _ _ hF hP (lh_sub hl [1, 2, 0] rfl)
set_option maxHeartbeats 2000000 in
theorem w_X1_nextRow_34 (X : CX p s m args c meth cX1_nextRow 5 (some .boolean) RX1 D dA ad A) {Q : Int32 → S → Prop} : ∀ (x0 : Nat) (x1 : Int32) (ι : S) (H : Heap) (locs : List Loc) (ls : Array Slot), P_X1_nextRow_34 g Q x0 x1 ι → PW D dA A s.heap ad (HS g ι) H locs → LH ad ls 5 [(0, pX x0), (1, iX x1)] → WGi p l e ({ frames := 2, cells := 0, slots := 0, locals := 40 } : Room) s m args below meth c D dA ad A g Q H locs (F0 m 34 ls []) := by
  intro x0 x1 ι H locs ls hF hP hl
  unfold P_X1_nextRow_34 at hF
  refine ph_iload_n (n := 1) X hl dX1_nextRow_34 rfl rfl ?_
  refine lv_if_ge (tgt := 40) X.1 X.2.1 dX1_nextRow_35 (by decide) (fun c21 => ?_) (fun c21 => ?_)
  · have hF := hF.1 c21
    refine ph_aload_n (n := 0) X hl dX1_nextRow_40 rfl rfl ?_
    obtain ⟨hm20, hF⟩ := hF
    refine cg_callVi 1 [] X hP hm20 (met_X1_sleepers l D dA ad g _ _ hF) (cwV 0 X.2.2.2.2.1 (lw_V q883 q885 qs6 q98 q886) rfl rfl rfl (by decide +kernel) ⟨Nat.le_of_ble_eq_true rfl, Nat.le_of_ble_eq_true rfl⟩) rfl hl (k8 := 0) (cs0 (k := 0)) (by decide) ⟨Nat.le_refl _, Nat.le_refl _⟩ dX1_nextRow_41 rfl (fun r17 ι18 H locs hF hP => ?_)
    refine lv_iconst (v := 1) X.1 X.2.1 dX1_nextRow_44 (by decide) ?_
    refine lv_isub X.1 X.2.1 dX1_nextRow_45 ?_
    refine ph_istore_n X hl dX1_nextRow_46 rfl (by decide) rfl (fun ls hl => ?_)
    obtain ⟨n9, hF⟩ := hF
    exact w_X1_nextRow_47 X n9 _ _ _ _ _ _ _ hF hP (lh_sub hl [1, 2, 0] rfl)
  · have hF := hF.2 c21
    refine lv_iconst (v := 0) X.1 X.2.1 dX1_nextRow_38 (by decide) ?_
    exact cg_zret X hP isB_0 hF dX1_nextRow_39
set_option maxHeartbeats 2000000 in
theorem w_X1_nextRow_7 (X : CX p s m args c meth cX1_nextRow 5 (some .boolean) RX1 D dA ad A) {Q : Int32 → S → Prop} : ∀ (n : Nat) (x0 : Nat) (x1 : Int32) (ι : S) (H : Heap) (locs : List Loc) (ls : Array Slot), P_X1_nextRow_7 g Q n x0 x1 ι → PW D dA A s.heap ad (HS g ι) H locs → LH ad ls 5 [(0, pX x0), (1, iX x1)] → WGi p l e ({ frames := 2, cells := 0, slots := 0, locals := 40 } : Room) s m args below meth c D dA ad A g Q H locs (F0 m 7 ls []) := by
  intro n
  induction n with
  | zero =>
    intro x0 x1 ι H locs ls hF
    exact hF.elim
  | succ n ih =>
    intro x0 x1 ι H locs ls hF hP hl
    rw [P_X1_nextRow_7] at hF
    refine ph_iload_n (n := 1) X hl dX1_nextRow_7 rfl rfl ?_
    refine lv_if_lt (tgt := 34) X.1 X.2.1 dX1_nextRow_8 (by decide) (fun c27 => ?_) (fun c27 => ?_)
    · have hF := hF.1 c27
      exact w_X1_nextRow_34 X _ _ _ _ _ _ hF hP hl
    · have hF := hF.2 c27
      refine ph_aload_n (n := 0) X hl dX1_nextRow_11 rfl rfl ?_
      obtain ⟨hm22, hF⟩ := hF
      refine cg_getr 1 16 X in_X1 hP hm22 q815 dX1_nextRow_12 ?_
      refine ph_iload_n (n := 1) X hl dX1_nextRow_15 rfl rfl ?_
      obtain ⟨hm23, hF⟩ := hF
      obtain ⟨hr24, hF⟩ := hF
      refine cg_iald X hP hm23 hr24 (k := x1.toNatClampNeg) rfl dX1_nextRow_16 ?_
      refine ph_aload_n (n := 0) X hl dX1_nextRow_17 rfl rfl ?_
      refine cg_getr 1 16 X in_X1 hP hm22 q815 dX1_nextRow_18 ?_
      refine ph_iload_n (n := 1) X hl dX1_nextRow_21 rfl rfl ?_
      refine lv_iconst (v := 1) X.1 X.2.1 dX1_nextRow_22 (by decide) ?_
      refine lv_iadd X.1 X.2.1 dX1_nextRow_23 ?_
      obtain ⟨hr25, hF⟩ := hF
      refine cg_iald X hP hm23 hr25 (k := (x1 + 1).toNatClampNeg) rfl dX1_nextRow_24 ?_
      refine lv_icmp_le (tgt := 34) X.1 X.2.1 dX1_nextRow_25 (by decide) (fun c26 => ?_) (fun c26 => ?_)
      · have hF := hF.1 c26
        exact w_X1_nextRow_34 X _ _ _ _ _ _ hF hP hl
      · have hF := hF.2 c26
        refine ph_iinc (v := x1 + (-1)) (k := 1) X hl dX1_nextRow_28 rfl rfl (by decide) rfl (fun ls hl => ?_)
        refine lv_goto (tgt := 7) X.1 X.2.1 dX1_nextRow_31 (by decide) ?_
        exact ih _ _ _ _ _ _ hF hP (lh_sub hl [1, 0] rfl)
set_option maxHeartbeats 2000000 in
theorem met_X1_nextRow (l : Launch) (D : va_G) (dA : Nat → ClassId) (ad : Nat → Nat) (g : GT) (ι : S) (sz : Nat) {a0 : Nat} {Q : Int32 → S → Prop} (hF : P_X1_nextRow g a0 ι Q) : CGi l yX1_nextRow cX1_nextRow 5 .boolean ({ frames := 2, cells := 0, slots := 0, locals := 40 } : Room) D dA ad g ι sz [pX a0] Q := by
  unfold P_X1_nextRow at hF
  refine ph_enter [pX a0] (Qc := fun A => va_Qi (GQi g Q) (CB D dA ad A) A) (by decide +kernel) (Nat.le_of_ble_eq_true rfl) ?_
  intro p e s m args below meth c A ls X hP hl hnm
  have hl : LH ad ls 5 [(0, pX a0)] := hl
  refine ph_aload_n (n := 0) X hl dX1_nextRow_0 rfl rfl ?_
  obtain ⟨hm31, hF⟩ := hF
  refine cg_callVi 1 [] X hP hm31 (met_X1_sleepers l D dA ad g _ _ hF) (cwV 0 X.2.2.2.2.1 (lw_V q883 q885 qs6 q98 q886) rfl rfl rfl (by decide +kernel) ⟨Nat.le_of_ble_eq_true rfl, Nat.le_of_ble_eq_true rfl⟩) rfl hl (k8 := 0) (cs0 (k := 0)) (by decide) ⟨Nat.le_refl _, Nat.le_refl _⟩ dX1_nextRow_1 rfl (fun r28 ι29 H locs hF hP => ?_)
  refine lv_iconst (v := 2) X.1 X.2.1 dX1_nextRow_4 (by decide) ?_
  refine lv_isub X.1 X.2.1 dX1_nextRow_5 ?_
  refine ph_istore_n X hl dX1_nextRow_6 rfl (by decide) rfl (fun ls hl => ?_)
  obtain ⟨n9, hF⟩ := hF
  exact w_X1_nextRow_7 X n9 _ _ _ _ _ _ hF hP (lh_sub hl [1, 0] rfl)
def P_X1_isPeaceful_2 (g : GT) (Q : Int32 → S → Prop) : Nat → Nat → Int32 → S → Prop
  | 0, _, _, _ => False
  | n + 1, x0, x1, ι => (gK g x0 = 2 ∧ (P_X1_sleepers g x0 ι (fun r1 ι2 => ((r1 ≤ x1 → (Q 1 ι2)) ∧ (¬ r1 ≤ x1 → (gK g (gR g x0 0) = 3 ∧ (gK g (gR g x0 16) = 100 ∧ (vp_in x1 (gL g (gR g x0 16)) ∧ (gK g (gR g (gR g x0 0) 7) = 100 ∧ (vp_in (ι2 (gR g x0 16) x1.toNatClampNeg) (gL g (gR g (gR g x0 0) 7)) ∧ (vp_in (x1 - 1) (gL g (gR g x0 16)) ∧ ((¬ (((ι2 (gR g (gR g x0 0) 7) ((ι2 (gR g x0 16) x1.toNatClampNeg).toNatClampNeg)) >>> (((ι2 (gR g x0 16) ((x1 - 1).toNatClampNeg)) : Int32) &&& 31)) &&& 1) = 1 → (P_X1_isPeaceful_2 g Q  n x0 (x1 + 1) ι2)) ∧ ((((ι2 (gR g (gR g x0 0) 7) ((ι2 (gR g x0 16) x1.toNatClampNeg).toNatClampNeg)) >>> (((ι2 (gR g x0 16) ((x1 - 1).toNatClampNeg)) : Int32) &&& 31)) &&& 1) = 1 → (Q 0 ι2))))))))))))))
def P_X1_isPeaceful (g : GT) (a0 : Nat) (ι : S) (Q : Int32 → S → Prop) : Prop := (∃ n9, P_X1_isPeaceful_2 g Q n9 a0 1 ι)
set_option maxHeartbeats 2000000 in
theorem w_X1_isPeaceful_2 (X : CX p s m args c meth cX1_isPeaceful 2 (some .boolean) RX1 D dA ad A) {Q : Int32 → S → Prop} : ∀ (n : Nat) (x0 : Nat) (x1 : Int32) (ι : S) (H : Heap) (locs : List Loc) (ls : Array Slot), P_X1_isPeaceful_2 g Q n x0 x1 ι → PW D dA A s.heap ad (HS g ι) H locs → LH ad ls 2 [(0, pX x0), (1, iX x1)] → WGi p l e ({ frames := 2, cells := 0, slots := 0, locals := 40 } : Room) s m args below meth c D dA ad A g Q H locs (F0 m 2 ls []) := by
  intro n
  induction n with
  | zero =>
    intro x0 x1 ι H locs ls hF
    exact hF.elim
  | succ n ih =>
    intro x0 x1 ι H locs ls hF hP hl
    rw [P_X1_isPeaceful_2] at hF
    refine ph_iload_n (n := 1) X hl dX1_isPeaceful_2 rfl rfl ?_
    refine ph_aload_n (n := 0) X hl dX1_isPeaceful_3 rfl rfl ?_
    obtain ⟨hm4, hF⟩ := hF
    refine cg_callVi 1 [] X hP hm4 (met_X1_sleepers l D dA ad g _ _ hF) (cwV 0 X.2.2.2.2.1 (lw_V q883 q885 qs6 q98 q886) rfl rfl rfl (by decide +kernel) ⟨Nat.le_of_ble_eq_true rfl, Nat.le_of_ble_eq_true rfl⟩) rfl hl (k8 := 1) (csi (cs0 (k := 0))) (by decide) ⟨Nat.le_refl _, Nat.le_refl _⟩ dX1_isPeaceful_4 rfl (fun r1 ι2 H locs hF hP => ?_)
    refine lv_icmp_ge (tgt := 47) X.1 X.2.1 dX1_isPeaceful_7 (by decide) (fun c12 => ?_) (fun c12 => ?_)
    · have hF := hF.1 c12
      refine lv_iconst (v := 1) X.1 X.2.1 dX1_isPeaceful_47 (by decide) ?_
      exact cg_zret X hP isB_1 hF dX1_isPeaceful_48
    · have hF := hF.2 c12
      refine ph_aload_n (n := 0) X hl dX1_isPeaceful_10 rfl rfl ?_
      refine cg_getr 1 0 X in_X1 hP hm4 q799 dX1_isPeaceful_11 ?_
      obtain ⟨hm5, hF⟩ := hF
      refine cg_getrN 2 7 X in_X2 hP hm5 q541 dX1_isPeaceful_14 ?_
      refine ph_aload_n (n := 0) X hl dX1_isPeaceful_17 rfl rfl ?_
      refine cg_getr 1 16 X in_X1 hP hm4 q815 dX1_isPeaceful_18 ?_
      refine ph_iload_n (n := 1) X hl dX1_isPeaceful_21 rfl rfl ?_
      obtain ⟨hm6, hF⟩ := hF
      obtain ⟨hr7, hF⟩ := hF
      refine cg_iald X hP hm6 hr7 (k := x1.toNatClampNeg) rfl dX1_isPeaceful_22 ?_
      obtain ⟨hm8, hF⟩ := hF
      obtain ⟨hr9, hF⟩ := hF
      refine cg_iald X hP hm8 hr9 (k := (ι2 (gR g x0 16) x1.toNatClampNeg).toNatClampNeg) rfl dX1_isPeaceful_23 ?_
      refine ph_aload_n (n := 0) X hl dX1_isPeaceful_24 rfl rfl ?_
      refine cg_getr 1 16 X in_X1 hP hm4 q815 dX1_isPeaceful_25 ?_
      refine ph_iload_n (n := 1) X hl dX1_isPeaceful_28 rfl rfl ?_
      refine lv_iconst (v := 1) X.1 X.2.1 dX1_isPeaceful_29 (by decide) ?_
      refine lv_isub X.1 X.2.1 dX1_isPeaceful_30 ?_
      obtain ⟨hr10, hF⟩ := hF
      refine cg_iald X hP hm6 hr10 (k := (x1 - 1).toNatClampNeg) rfl dX1_isPeaceful_31 ?_
      refine lv_ishr X.1 X.2.1 dX1_isPeaceful_32 ?_
      refine lv_iconst (v := 1) X.1 X.2.1 dX1_isPeaceful_33 (by decide) ?_
      refine lv_iand X.1 X.2.1 dX1_isPeaceful_34 ?_
      refine lv_iconst (v := 1) X.1 X.2.1 dX1_isPeaceful_35 (by decide) ?_
      refine lv_icmp_ne (tgt := 41) X.1 X.2.1 dX1_isPeaceful_36 (by decide) (fun c11 => ?_) (fun c11 => ?_)
      · have hF := hF.1 c11
        refine ph_iinc (v := x1 + 1) (k := 1) X hl dX1_isPeaceful_41 rfl rfl (by decide) rfl (fun ls hl => ?_)
        refine lv_goto (tgt := 2) X.1 X.2.1 dX1_isPeaceful_44 (by decide) ?_
        exact ih _ _ _ _ _ _ hF hP (lh_sub hl [1, 0] rfl)
      · have hF := hF.2 c11
        refine lv_iconst (v := 0) X.1 X.2.1 dX1_isPeaceful_39 (by decide) ?_
        exact cg_zret X hP isB_0 hF dX1_isPeaceful_40
set_option maxHeartbeats 2000000 in
theorem met_X1_isPeaceful (l : Launch) (D : va_G) (dA : Nat → ClassId) (ad : Nat → Nat) (g : GT) (ι : S) (sz : Nat) {a0 : Nat} {Q : Int32 → S → Prop} (hF : P_X1_isPeaceful g a0 ι Q) : CGi l yX1_isPeaceful cX1_isPeaceful 2 .boolean ({ frames := 2, cells := 0, slots := 0, locals := 40 } : Room) D dA ad g ι sz [pX a0] Q := by
  unfold P_X1_isPeaceful at hF
  refine ph_enter [pX a0] (Qc := fun A => va_Qi (GQi g Q) (CB D dA ad A) A) (by decide +kernel) (Nat.le_of_ble_eq_true rfl) ?_
  intro p e s m args below meth c A ls X hP hl hnm
  have hl : LH ad ls 2 [(0, pX a0)] := hl
  refine lv_iconst (v := 1) X.1 X.2.1 dX1_isPeaceful_0 (by decide) ?_
  refine ph_istore_n X hl dX1_isPeaceful_1 rfl (by decide) rfl (fun ls hl => ?_)
  obtain ⟨n9, hF⟩ := hF
  exact w_X1_isPeaceful_2 X n9 _ _ _ _ _ _ hF hP (lh_sub hl [1, 0] rfl)
def P_X1_keeps (g : GT) (a0 : Nat) (ι : S) (Q : S → Prop) : Prop := (gK g a0 = 2 ∧ (gK g (gR g a0 16) = 100 ∧ (gK g (gR g a0 17) = 100 ∧ (7 ≤ gL g (gR g a0 16) ∧ (7 ≤ gL g (gR g a0 17) ∧ (∀ ι6, ι6 = va_up ι (gR g a0 17) (va_cpy (ι (gR g a0 16)) (ι (gR g a0 17)) 0 0 7) → (∀ ι7, ι7 = up2 ι6 a0 18 1 → (Q ι7))))))))
set_option maxHeartbeats 2000000 in
theorem met_X1_keeps (l : Launch) (D : va_G) (dA : Nat → ClassId) (ad : Nat → Nat) (g : GT) (ι : S) (sz : Nat) {a0 : Nat} {Q : S → Prop} (hF : P_X1_keeps g a0 ι Q) : CGv l yX1_keeps cX1_keeps 1 ({ frames := 1, cells := 0, slots := 0, locals := 60 } : Room) D dA ad g ι sz [pX a0] Q := by
  unfold P_X1_keeps at hF
  refine ph_enter [pX a0] (Qc := fun A => va_Qv (GQv g Q) (CB D dA ad A) A) (by decide +kernel) (Nat.le_of_ble_eq_true rfl) ?_
  intro p e s m args below meth c A ls X hP hl hnm
  have hl : LH ad ls 1 [(0, pX a0)] := hl
  refine ph_aload_n (n := 0) X hl dX1_keeps_0 rfl rfl ?_
  obtain ⟨hm1, hF⟩ := hF
  refine cg_getr 1 16 X in_X1 hP hm1 q815 dX1_keeps_1 ?_
  refine lv_iconst (v := 0) X.1 X.2.1 dX1_keeps_4 (by decide) ?_
  refine ph_aload_n (n := 0) X hl dX1_keeps_5 rfl rfl ?_
  refine cg_getr 1 17 X in_X1 hP hm1 q816 dX1_keeps_6 ?_
  refine lv_iconst (v := 0) X.1 X.2.1 dX1_keeps_9 (by decide) ?_
  refine lv_bipush (v := 7) X.1 X.2.1 dX1_keeps_10 (by decide) ?_
  obtain ⟨hm2, hF⟩ := hF
  obtain ⟨hm3, hF⟩ := hF
  obtain ⟨hr4, hF⟩ := hF
  obtain ⟨hr5, hF⟩ := hF
  refine cg_copyi (a := 0) (b := 0) (k := 7) X hP hl q956 q289 q288 q114 hm2 hm3 (by decide) (by decide) (by decide) (by decide) (by decide) (by decide) hr4 hr5 (Nat.le_of_ble_eq_true rfl) (Nat.le_trans (Nat.add_le_add_right (cs0 (k := 0)) _) (by decide +kernel)) dX1_keeps_12 hF (fun H locs ι6 hP hF => ?_)
  refine ph_aload_n (n := 0) X hl dX1_keeps_15 rfl rfl ?_
  refine lv_iconst (v := 1) X.1 X.2.1 dX1_keeps_16 (by decide) ?_
  refine cg_putz 1 18 X in_X1 tyX1 tyX1_ok nmX1 hP hm1 q817 dX1_keeps_17 isB_1 hF (fun H locs ι7 hP hF => ?_)
  exact cg_vret X hP hF dX1_keeps_20
def P_X1_orders_20 (g : GT) (Q : Int32 → S → Prop) : Nat → Nat → Int32 → Int32 → S → Prop
  | 0, _, _, _, _ => False
  | n + 1, x0, x1, x2, ι => ((x2 = 0 → (Q x1 ι)) ∧ (¬ x2 = 0 → (gK g x0 = 2 ∧ (P_X1_isPeaceful g x0 ι (fun r1 ι2 => ((r1 = 0 → (P_X1_nextRow g x0 ι2 (fun r5 ι6 => (P_X1_orders_20 g Q  n x0 x1 r5 ι6)))) ∧ (¬ r1 = 0 → (P_X1_nextRow g x0 ι2 (fun r8 ι9 => (P_X1_orders_20 g Q  n x0 (x1 + 1) r8 ι9))))))))))
def P_X1_orders (g : GT) (a0 : Nat) (ι : S) (Q : Int32 → S → Prop) : Prop := (gK g a0 = 2 ∧ (P_X1_sleepers g a0 ι (fun r13 ι14 => ((r13 ≤ 6 → (P_X1_firstRow g a0 ι14 (fun ι18 => (∃ n9, P_X1_orders_20 g Q n9 a0 0 1 ι18)))) ∧ (¬ r13 ≤ 6 → (Q (-2) ι14))))))
set_option maxHeartbeats 2000000 in
theorem w_X1_orders_20 (X : CX p s m args c meth cX1_orders 3 (some .int) RX1 D dA ad A) {Q : Int32 → S → Prop} : ∀ (n : Nat) (x0 : Nat) (x1 : Int32) (x2 : Int32) (ι : S) (H : Heap) (locs : List Loc) (ls : Array Slot), P_X1_orders_20 g Q n x0 x1 x2 ι → PW D dA A s.heap ad (HS g ι) H locs → LH ad ls 3 [(0, pX x0), (1, iX x1), (2, iX x2)] → WGi p l e ({ frames := 3, cells := 0, slots := 0, locals := 64 } : Room) s m args below meth c D dA ad A g Q H locs (F0 m 20 ls []) := by
  intro n
  induction n with
  | zero =>
    intro x0 x1 x2 ι H locs ls hF
    exact hF.elim
  | succ n ih =>
    intro x0 x1 x2 ι H locs ls hF hP hl
    rw [P_X1_orders_20] at hF
    refine ph_iload_n (n := 2) X hl dX1_orders_20 rfl rfl ?_
    refine lv_if_eq (tgt := 42) X.1 X.2.1 dX1_orders_21 (by decide) (fun c12 => ?_) (fun c12 => ?_)
    · have hF := hF.1 c12
      refine ph_iload_n (n := 1) X hl dX1_orders_42 rfl rfl ?_
      exact cg_iret X hP hF dX1_orders_43
    · have hF := hF.2 c12
      refine ph_aload_n (n := 0) X hl dX1_orders_24 rfl rfl ?_
      obtain ⟨hm4, hF⟩ := hF
      refine cg_callVi 1 [] X hP hm4 (met_X1_isPeaceful l D dA ad g _ _ hF) (cwV 0 X.2.2.2.2.1 (lw_V q940 q942 qs10 q98 q943) rfl rfl rfl (by decide +kernel) ⟨Nat.le_of_ble_eq_true rfl, Nat.le_of_ble_eq_true rfl⟩) rfl hl (k8 := 0) (cs0 (k := 0)) (by decide) ⟨Nat.le_refl _, Nat.le_refl _⟩ dX1_orders_25 rfl (fun r1 ι2 H locs hF hP => ?_)
      refine lv_if_eq (tgt := 34) X.1 X.2.1 dX1_orders_28 (by decide) (fun c11 => ?_) (fun c11 => ?_)
      · have hF := hF.1 c11
        refine ph_aload_n (n := 0) X hl dX1_orders_34 rfl rfl ?_
        refine cg_callVi 1 [] X hP hm4 (met_X1_nextRow l D dA ad g _ _ hF) (cwV 0 X.2.2.2.2.1 (lw_V q944 q946 qs11 q98 q947) rfl rfl rfl (by decide +kernel) ⟨Nat.le_of_ble_eq_true rfl, Nat.le_of_ble_eq_true rfl⟩) rfl hl (k8 := 0) (cs0 (k := 0)) (by decide) ⟨Nat.le_refl _, Nat.le_refl _⟩ dX1_orders_35 rfl (fun r5 ι6 H locs hF hP => ?_)
        refine ph_istore_n X hl dX1_orders_38 rfl (by decide) rfl (fun ls hl => ?_)
        refine lv_goto (tgt := 20) X.1 X.2.1 dX1_orders_39 (by decide) ?_
        exact ih _ _ _ _ _ _ _ hF hP (lh_sub hl [1, 2, 0] rfl)
      · have hF := hF.2 c11
        refine ph_iinc (v := x1 + 1) (k := 1) X hl dX1_orders_31 rfl rfl (by decide) rfl (fun ls hl => ?_)
        refine ph_aload_n (n := 1) X hl dX1_orders_34 rfl rfl ?_
        refine cg_callVi 1 [] X hP hm4 (met_X1_nextRow l D dA ad g _ _ hF) (cwV 0 X.2.2.2.2.1 (lw_V q944 q946 qs11 q98 q947) rfl rfl rfl (by decide +kernel) ⟨Nat.le_of_ble_eq_true rfl, Nat.le_of_ble_eq_true rfl⟩) rfl hl (k8 := 0) (cs0 (k := 0)) (by decide) ⟨Nat.le_refl _, Nat.le_refl _⟩ dX1_orders_35 rfl (fun r8 ι9 H locs hF hP => ?_)
        refine ph_istore_n X hl dX1_orders_38 rfl (by decide) rfl (fun ls hl => ?_)
        refine lv_goto (tgt := 20) X.1 X.2.1 dX1_orders_39 (by decide) ?_
        exact ih _ _ _ _ _ _ _ hF hP (lh_sub hl [2, 1, 0] rfl)
set_option maxHeartbeats 2000000 in
theorem met_X1_orders (l : Launch) (D : va_G) (dA : Nat → ClassId) (ad : Nat → Nat) (g : GT) (ι : S) (sz : Nat) {a0 : Nat} {Q : Int32 → S → Prop} (hF : P_X1_orders g a0 ι Q) : CGi l yX1_orders cX1_orders 3 .int ({ frames := 3, cells := 0, slots := 0, locals := 64 } : Room) D dA ad g ι sz [pX a0] Q := by
  unfold P_X1_orders at hF
  refine ph_enter [pX a0] (Qc := fun A => va_Qi (GQi g Q) (CB D dA ad A) A) (by decide +kernel) (Nat.le_of_ble_eq_true rfl) ?_
  intro p e s m args below meth c A ls X hP hl hnm
  have hl : LH ad ls 3 [(0, pX a0)] := hl
  refine ph_aload_n (n := 0) X hl dX1_orders_0 rfl rfl ?_
  obtain ⟨hm16, hF⟩ := hF
  refine cg_callVi 1 [] X hP hm16 (met_X1_sleepers l D dA ad g _ _ hF) (cwV 0 X.2.2.2.2.1 (lw_V q883 q885 qs6 q98 q886) rfl rfl rfl (by decide +kernel) ⟨Nat.le_of_ble_eq_true rfl, Nat.le_of_ble_eq_true rfl⟩) rfl hl (k8 := 0) (cs0 (k := 0)) (by decide) ⟨Nat.le_refl _, Nat.le_refl _⟩ dX1_orders_1 rfl (fun r13 ι14 H locs hF hP => ?_)
  refine lv_bipush (v := 6) X.1 X.2.1 dX1_orders_4 (by decide) ?_
  refine lv_icmp_le (tgt := 12) X.1 X.2.1 dX1_orders_6 (by decide) (fun c20 => ?_) (fun c20 => ?_)
  · have hF := hF.1 c20
    refine ph_aload_n (n := 0) X hl dX1_orders_12 rfl rfl ?_
    refine cg_callVv 1 [] X hP hm16 (met_X1_firstRow l D dA ad g _ _ hF) (cwV 0 X.2.2.2.2.1 (lw_V q936 q938 qs9 q98 q939) rfl rfl rfl (by decide +kernel) ⟨Nat.le_of_ble_eq_true rfl, Nat.le_of_ble_eq_true rfl⟩) rfl hl (k8 := 0) (cs0 (k := 0)) (by decide) ⟨Nat.le_refl _, Nat.le_refl _⟩ dX1_orders_13 rfl (fun ι18 H locs hF hP => ?_)
    refine lv_iconst (v := 0) X.1 X.2.1 dX1_orders_16 (by decide) ?_
    refine ph_istore_n X hl dX1_orders_17 rfl (by decide) rfl (fun ls hl => ?_)
    refine lv_iconst (v := 1) X.1 X.2.1 dX1_orders_18 (by decide) ?_
    refine ph_istore_n X hl dX1_orders_19 rfl (by decide) rfl (fun ls hl => ?_)
    obtain ⟨n9, hF⟩ := hF
    exact w_X1_orders_20 X n9 _ _ _ _ _ _ _ hF hP (lh_sub hl [2, 1, 0] rfl)
  · have hF := hF.2 c20
    refine lv_bipush (v := (-2)) X.1 X.2.1 dX1_orders_9 (by decide) ?_
    exact cg_iret X hP hF dX1_orders_11
def P_X1_order_75 (g : GT) (Q : Int32 → S → Prop) (k31 : Nat → Int32 → Int32 → S → Prop) (x0 : Nat) (x3 : Int32) (ι : S) : Prop := (gK g x0 = 2 ∧ (P_X1_keeps g x0 ι (fun ι2 => (P_X1_nextRow g x0 ι2 (fun r5 ι6 => (k31 x0 x3 r5 ι6))))))
def P_X1_order_31 (g : GT) (Q : Int32 → S → Prop) : Nat → Nat → Int32 → Int32 → S → Prop
  | 0, _, _, _, _ => False
  | n + 1, x0, x1, x2, ι => ((x2 = 0 → (Q x1 ι)) ∧ (¬ x2 = 0 → (gK g x0 = 2 ∧ (P_X1_isPeaceful g x0 ι (fun r8 ι9 => ((r8 = 0 → (P_X1_nextRow g x0 ι9 (fun r12 ι13 => (P_X1_order_31 g Q  n x0 x1 r12 ι13)))) ∧ (¬ r8 = 0 → (gK g (gR g x0 4) = 6 ∧ (gK g (gR g x0 16) = 100 ∧ (gK g (gR g (gR g x0 4) 0) = 100 ∧ (7 ≤ gL g (gR g x0 16) ∧ (7 ≤ gL g (gR g (gR g x0 4) 0) ∧ (∀ ι20, ι20 = va_up ι9 (gR g (gR g x0 4) 0) (va_cpy (ι9 (gR g x0 16)) (ι9 (gR g (gR g x0 4) 0)) 0 0 7) → (P_X1_tries g x0 ι20 (fun r21 ι22 => ((x1 = (-1) → (P_X1_order_75 g Q (fun z0 z1 z2 z3 => P_X1_order_31 g Q  n z0 z1 z2 z3) x0 r21 ι22)) ∧ (¬ x1 = (-1) → ((x1 ≤ r21 → (P_X1_nextRow g x0 ι22 (fun r24 ι25 => (P_X1_order_31 g Q  n x0 x1 r24 ι25)))) ∧ (¬ x1 ≤ r21 → (P_X1_order_75 g Q (fun z0 z1 z2 z3 => P_X1_order_31 g Q  n z0 z1 z2 z3) x0 r21 ι22))))))))))))))))))))
def P_X1_order (g : GT) (a0 : Nat) (ι : S) (Q : Int32 → S → Prop) : Prop := (gK g a0 = 2 ∧ (P_X1_sleepers g a0 ι (fun r31 ι32 => ((r31 ≤ 6 → (gK g (gR g a0 4) = 6 ∧ (P_X6_like g (gR g a0 4) (gR g a0 3) ι32 (fun ι36 => (P_X1_firstRow g a0 ι36 (fun ι40 => (∃ n9, P_X1_order_31 g Q n9 a0 (-1) 1 ι40))))))) ∧ (¬ r31 ≤ 6 → (Q (-2) ι32))))))
set_option maxHeartbeats 2000000 in
theorem w_X1_order_75 (X : CX p s m args c meth cX1_order 4 (some .int) RX1 D dA ad A) {Q : Int32 → S → Prop} {k31 : Nat → Int32 → Int32 → S → Prop} (hk31 : ∀ (x0 : Nat) (x1 : Int32) (x2 : Int32) (ι : S) (H : Heap) (locs : List Loc) (ls : Array Slot), k31 x0 x1 x2 ι → PW D dA A s.heap ad (HS g ι) H locs → LH ad ls 4 [(0, pX x0), (1, iX x1), (2, iX x2)] → WGi p l e ({ frames := 2110, cells := 0, slots := 0, locals := 45021 } : Room) s m args below meth c D dA ad A g Q H locs (F0 m 31 ls [])) : ∀ (x0 : Nat) (x3 : Int32) (ι : S) (H : Heap) (locs : List Loc) (ls : Array Slot), P_X1_order_75 g Q k31 x0 x3 ι → PW D dA A s.heap ad (HS g ι) H locs → LH ad ls 4 [(0, pX x0), (3, iX x3)] → WGi p l e ({ frames := 2110, cells := 0, slots := 0, locals := 45021 } : Room) s m args below meth c D dA ad A g Q H locs (F0 m 75 ls []) := by
  intro x0 x3 ι H locs ls hF hP hl
  unfold P_X1_order_75 at hF
  refine ph_iload_n (n := 1) X hl dX1_order_75 rfl rfl ?_
  refine ph_istore_n X hl dX1_order_76 rfl (by decide) rfl (fun ls hl => ?_)
  refine ph_aload_n (n := 1) X hl dX1_order_77 rfl rfl ?_
  obtain ⟨hm4, hF⟩ := hF
  refine cg_callVv 1 [] X hP hm4 (met_X1_keeps l D dA ad g _ _ hF) (cwV 0 X.2.2.2.2.1 (lw_V q1121 q1123 qs21 q98 q1124) rfl rfl rfl (by decide +kernel) ⟨Nat.le_of_ble_eq_true rfl, Nat.le_of_ble_eq_true rfl⟩) rfl hl (k8 := 0) (cs0 (k := 0)) (by decide) ⟨Nat.le_refl _, Nat.le_refl _⟩ dX1_order_78 rfl (fun ι2 H locs hF hP => ?_)
  refine ph_aload_n (n := 1) X hl dX1_order_81 rfl rfl ?_
  refine cg_callVi 1 [] X hP hm4 (met_X1_nextRow l D dA ad g _ _ hF) (cwV 0 X.2.2.2.2.1 (lw_V q944 q946 qs11 q98 q947) rfl rfl rfl (by decide +kernel) ⟨Nat.le_of_ble_eq_true rfl, Nat.le_of_ble_eq_true rfl⟩) rfl hl (k8 := 0) (cs0 (k := 0)) (by decide) ⟨Nat.le_refl _, Nat.le_refl _⟩ dX1_order_82 rfl (fun r5 ι6 H locs hF hP => ?_)
  refine ph_istore_n X hl dX1_order_85 rfl (by decide) rfl (fun ls hl => ?_)
  refine lv_goto (tgt := 31) X.1 X.2.1 dX1_order_86 (by decide) ?_
  exact hk31 _ _ _ _ _ _ _ hF hP (lh_sub hl [2, 1, 0] rfl)
set_option maxHeartbeats 2000000 in
theorem w_X1_order_31 (X : CX p s m args c meth cX1_order 4 (some .int) RX1 D dA ad A) {Q : Int32 → S → Prop} : ∀ (n : Nat) (x0 : Nat) (x1 : Int32) (x2 : Int32) (ι : S) (H : Heap) (locs : List Loc) (ls : Array Slot), P_X1_order_31 g Q n x0 x1 x2 ι → PW D dA A s.heap ad (HS g ι) H locs → LH ad ls 4 [(0, pX x0), (1, iX x1), (2, iX x2)] → WGi p l e ({ frames := 2110, cells := 0, slots := 0, locals := 45021 } : Room) s m args below meth c D dA ad A g Q H locs (F0 m 31 ls []) := by
  intro n
  induction n with
  | zero =>
    intro x0 x1 x2 ι H locs ls hF
    exact hF.elim
  | succ n ih =>
    intro x0 x1 x2 ι H locs ls hF hP hl
    rw [P_X1_order_31] at hF
    refine ph_iload_n (n := 2) X hl dX1_order_31 rfl rfl ?_
    refine lv_if_eq (tgt := 89) X.1 X.2.1 dX1_order_32 (by decide) (fun c30 => ?_) (fun c30 => ?_)
    · have hF := hF.1 c30
      refine ph_iload_n (n := 1) X hl dX1_order_89 rfl rfl ?_
      exact cg_iret X hP hF dX1_order_90
    · have hF := hF.2 c30
      refine ph_aload_n (n := 0) X hl dX1_order_35 rfl rfl ?_
      obtain ⟨hm11, hF⟩ := hF
      refine cg_callVi 1 [] X hP hm11 (met_X1_isPeaceful l D dA ad g _ _ hF) (cwV 0 X.2.2.2.2.1 (lw_V q940 q942 qs10 q98 q943) rfl rfl rfl (by decide +kernel) ⟨Nat.le_of_ble_eq_true rfl, Nat.le_of_ble_eq_true rfl⟩) rfl hl (k8 := 0) (cs0 (k := 0)) (by decide) ⟨Nat.le_refl _, Nat.le_refl _⟩ dX1_order_36 rfl (fun r8 ι9 H locs hF hP => ?_)
      refine lv_if_eq (tgt := 81) X.1 X.2.1 dX1_order_39 (by decide) (fun c29 => ?_) (fun c29 => ?_)
      · have hF := hF.1 c29
        refine ph_aload_n (n := 0) X hl dX1_order_81 rfl rfl ?_
        refine cg_callVi 1 [] X hP hm11 (met_X1_nextRow l D dA ad g _ _ hF) (cwV 0 X.2.2.2.2.1 (lw_V q944 q946 qs11 q98 q947) rfl rfl rfl (by decide +kernel) ⟨Nat.le_of_ble_eq_true rfl, Nat.le_of_ble_eq_true rfl⟩) rfl hl (k8 := 0) (cs0 (k := 0)) (by decide) ⟨Nat.le_refl _, Nat.le_refl _⟩ dX1_order_82 rfl (fun r12 ι13 H locs hF hP => ?_)
        refine ph_istore_n X hl dX1_order_85 rfl (by decide) rfl (fun ls hl => ?_)
        refine lv_goto (tgt := 31) X.1 X.2.1 dX1_order_86 (by decide) ?_
        exact ih _ _ _ _ _ _ _ hF hP (lh_sub hl [1, 2, 0] rfl)
      · have hF := hF.2 c29
        refine ph_aload_n (n := 0) X hl dX1_order_42 rfl rfl ?_
        refine cg_getr 1 16 X in_X1 hP hm11 q815 dX1_order_43 ?_
        refine lv_iconst (v := 0) X.1 X.2.1 dX1_order_46 (by decide) ?_
        refine ph_aload_n (n := 0) X hl dX1_order_47 rfl rfl ?_
        refine cg_getr 1 4 X in_X1 hP hm11 q803 dX1_order_48 ?_
        obtain ⟨hm15, hF⟩ := hF
        refine cg_getrN 5 0 X in_X6 hP hm15 q582 dX1_order_51 ?_
        refine lv_iconst (v := 0) X.1 X.2.1 dX1_order_54 (by decide) ?_
        refine lv_bipush (v := 7) X.1 X.2.1 dX1_order_55 (by decide) ?_
        obtain ⟨hm16, hF⟩ := hF
        obtain ⟨hm17, hF⟩ := hF
        obtain ⟨hr18, hF⟩ := hF
        obtain ⟨hr19, hF⟩ := hF
        refine cg_copyi (a := 0) (b := 0) (k := 7) X hP hl q956 q289 q288 q114 hm16 hm17 (by decide) (by decide) (by decide) (by decide) (by decide) (by decide) hr18 hr19 (Nat.le_of_ble_eq_true rfl) (Nat.le_trans (Nat.add_le_add_right (cs0 (k := 0)) _) (by decide +kernel)) dX1_order_57 hF (fun H locs ι20 hP hF => ?_)
        refine ph_aload_n (n := 0) X hl dX1_order_60 rfl rfl ?_
        refine cg_callVi 1 [] X hP hm11 (met_X1_tries l D dA ad g _ _ hF) (cwV 0 X.2.2.2.2.1 (lw_V q957 q959 qs13 q98 q960) rfl rfl rfl (by decide +kernel) ⟨Nat.le_of_ble_eq_true rfl, Nat.le_of_ble_eq_true rfl⟩) rfl hl (k8 := 0) (cs0 (k := 0)) (by decide) ⟨Nat.le_refl _, Nat.le_refl _⟩ dX1_order_61 rfl (fun r21 ι22 H locs hF hP => ?_)
        refine ph_istore_n X hl dX1_order_64 rfl (by decide) rfl (fun ls hl => ?_)
        refine ph_iload_n (n := 2) X hl dX1_order_65 rfl rfl ?_
        refine lv_iconst (v := (-1)) X.1 X.2.1 dX1_order_66 (by decide) ?_
        refine lv_icmp_eq (tgt := 75) X.1 X.2.1 dX1_order_67 (by decide) (fun c28 => ?_) (fun c28 => ?_)
        · have hF := hF.1 c28
          exact w_X1_order_75 X ih _ _ _ _ _ _ hF hP (lh_sub hl [1, 0] rfl)
        · have hF := hF.2 c28
          refine ph_iload_n (n := 0) X hl dX1_order_70 rfl rfl ?_
          refine ph_iload_n (n := 2) X hl dX1_order_71 rfl rfl ?_
          refine lv_icmp_ge (tgt := 81) X.1 X.2.1 dX1_order_72 (by decide) (fun c27 => ?_) (fun c27 => ?_)
          · have hF := hF.1 c27
            refine ph_aload_n (n := 1) X hl dX1_order_81 rfl rfl ?_
            refine cg_callVi 1 [] X hP hm11 (met_X1_nextRow l D dA ad g _ _ hF) (cwV 0 X.2.2.2.2.1 (lw_V q944 q946 qs11 q98 q947) rfl rfl rfl (by decide +kernel) ⟨Nat.le_of_ble_eq_true rfl, Nat.le_of_ble_eq_true rfl⟩) rfl hl (k8 := 0) (cs0 (k := 0)) (by decide) ⟨Nat.le_refl _, Nat.le_refl _⟩ dX1_order_82 rfl (fun r24 ι25 H locs hF hP => ?_)
            refine ph_istore_n X hl dX1_order_85 rfl (by decide) rfl (fun ls hl => ?_)
            refine lv_goto (tgt := 31) X.1 X.2.1 dX1_order_86 (by decide) ?_
            exact ih _ _ _ _ _ _ _ hF hP (lh_sub hl [2, 3, 0] rfl)
          · have hF := hF.2 c27
            exact w_X1_order_75 X ih _ _ _ _ _ _ hF hP (lh_sub hl [1, 0] rfl)
set_option maxHeartbeats 2000000 in
theorem met_X1_order (l : Launch) (D : va_G) (dA : Nat → ClassId) (ad : Nat → Nat) (g : GT) (ι : S) (sz : Nat) {a0 : Nat} {Q : Int32 → S → Prop} (hF : P_X1_order g a0 ι Q) : CGi l yX1_order cX1_order 4 .int ({ frames := 2110, cells := 0, slots := 0, locals := 45021 } : Room) D dA ad g ι sz [pX a0] Q := by
  unfold P_X1_order at hF
  refine ph_enter [pX a0] (Qc := fun A => va_Qi (GQi g Q) (CB D dA ad A) A) (by decide +kernel) (Nat.le_of_ble_eq_true rfl) ?_
  intro p e s m args below meth c A ls X hP hl hnm
  have hl : LH ad ls 4 [(0, pX a0)] := hl
  refine ph_aload_n (n := 0) X hl dX1_order_0 rfl rfl ?_
  obtain ⟨hm34, hF⟩ := hF
  refine cg_callVi 1 [] X hP hm34 (met_X1_sleepers l D dA ad g _ _ hF) (cwV 0 X.2.2.2.2.1 (lw_V q883 q885 qs6 q98 q886) rfl rfl rfl (by decide +kernel) ⟨Nat.le_of_ble_eq_true rfl, Nat.le_of_ble_eq_true rfl⟩) rfl hl (k8 := 0) (cs0 (k := 0)) (by decide) ⟨Nat.le_refl _, Nat.le_refl _⟩ dX1_order_1 rfl (fun r31 ι32 H locs hF hP => ?_)
  refine lv_bipush (v := 6) X.1 X.2.1 dX1_order_4 (by decide) ?_
  refine lv_icmp_le (tgt := 12) X.1 X.2.1 dX1_order_6 (by decide) (fun c42 => ?_) (fun c42 => ?_)
  · have hF := hF.1 c42
    refine lv_iconst (v := (-1)) X.1 X.2.1 dX1_order_12 (by decide) ?_
    refine ph_istore_n X hl dX1_order_13 rfl (by decide) rfl (fun ls hl => ?_)
    refine ph_aload_n (n := 1) X hl dX1_order_14 rfl rfl ?_
    refine cg_getr 1 4 X in_X1 hP hm34 q803 dX1_order_15 ?_
    refine ph_aload_n (n := 1) X hl dX1_order_18 rfl rfl ?_
    refine cg_getr 1 3 X in_X1 hP hm34 q802 dX1_order_19 ?_
    obtain ⟨hm38, hF⟩ := hF
    refine cg_callVv 5 [pX (gR g a0 3)] X hP hm38 (met_X6_like l D dA ad g _ _ hF) (cwV 1 X.2.2.2.2.1 (lw_V q931 q907 q908 q123 q909) rfl rfl rfl (by decide +kernel) ⟨Nat.le_of_ble_eq_true rfl, Nat.le_of_ble_eq_true rfl⟩) rfl hl (k8 := 0) (cs0 (k := 0)) (by decide) ⟨Nat.le_refl _, Nat.le_refl _⟩ dX1_order_22 rfl (fun ι36 H locs hF hP => ?_)
    refine ph_aload_n (n := 1) X hl dX1_order_25 rfl rfl ?_
    refine cg_callVv 1 [] X hP hm34 (met_X1_firstRow l D dA ad g _ _ hF) (cwV 0 X.2.2.2.2.1 (lw_V q936 q938 qs9 q98 q939) rfl rfl rfl (by decide +kernel) ⟨Nat.le_of_ble_eq_true rfl, Nat.le_of_ble_eq_true rfl⟩) rfl hl (k8 := 0) (cs0 (k := 0)) (by decide) ⟨Nat.le_refl _, Nat.le_refl _⟩ dX1_order_26 rfl (fun ι40 H locs hF hP => ?_)
    refine lv_iconst (v := 1) X.1 X.2.1 dX1_order_29 (by decide) ?_
    refine ph_istore_n X hl dX1_order_30 rfl (by decide) rfl (fun ls hl => ?_)
    obtain ⟨n9, hF⟩ := hF
    exact w_X1_order_31 X n9 _ _ _ _ _ _ _ hF hP (lh_sub hl [2, 1, 0] rfl)
  · have hF := hF.2 c42
    refine lv_bipush (v := (-2)) X.1 X.2.1 dX1_order_9 (by decide) ?_
    exact cg_iret X hP hF dX1_order_11
def P_X1_common_4 (g : GT) (Q : Int32 → S → Prop) : Nat → Int32 → Int32 → S → Prop
  | 0, _, _, _ => False
  | n + 1, x2, x3, ι => ((x3 = 0 → (Q x2 ι)) ∧ (¬ x3 = 0 → (¬ x3 = 0 ∧ (P_X1_common_4 g Q  n x3 (x2 - x2 / x3 * x3) ι))))
def P_X1_common (g : GT) (a0 : Int32) (a1 : Int32) (ι : S) (Q : Int32 → S → Prop) : Prop := (∃ n9, P_X1_common_4 g Q n9 a0 a1 ι)
set_option maxHeartbeats 2000000 in
theorem w_X1_common_4 (X : CX p s m args c meth cX1_common 5 (some .int) RX1 D dA ad A) {Q : Int32 → S → Prop} : ∀ (n : Nat) (x2 : Int32) (x3 : Int32) (ι : S) (H : Heap) (locs : List Loc) (ls : Array Slot), P_X1_common_4 g Q n x2 x3 ι → PW D dA A s.heap ad (HS g ι) H locs → LH ad ls 5 [(2, iX x2), (3, iX x3)] → WGi p l e ({ frames := 0, cells := 0, slots := 0, locals := 0 } : Room) s m args below meth c D dA ad A g Q H locs (F0 m 4 ls []) := by
  intro n
  induction n with
  | zero =>
    intro x2 x3 ι H locs ls hF
    exact hF.elim
  | succ n ih =>
    intro x2 x3 ι H locs ls hF hP hl
    rw [P_X1_common_4] at hF
    refine ph_iload_n (n := 1) X hl dX1_common_4 rfl rfl ?_
    refine lv_if_eq (tgt := 21) X.1 X.2.1 dX1_common_5 (by decide) (fun c2 => ?_) (fun c2 => ?_)
    · have hF := hF.1 c2
      refine ph_iload_n (n := 0) X hl dX1_common_21 rfl rfl ?_
      exact cg_iret X hP hF dX1_common_22
    · have hF := hF.2 c2
      refine ph_iload_n (n := 0) X hl dX1_common_8 rfl rfl ?_
      refine ph_iload_n (n := 1) X hl dX1_common_9 rfl rfl ?_
      obtain ⟨hz1, hF⟩ := hF
      refine lv_irem X.1 X.2.1 dX1_common_10 hz1 ?_
      refine ph_istore X hl dX1_common_11 (by decide) rfl (fun ls hl => ?_)
      refine ph_iload_n (n := 2) X hl dX1_common_13 rfl rfl ?_
      refine ph_istore_n X hl dX1_common_14 rfl (by decide) rfl (fun ls hl => ?_)
      refine ph_iload (n := 1) X hl dX1_common_15 rfl ?_
      refine ph_istore_n X hl dX1_common_17 rfl (by decide) rfl (fun ls hl => ?_)
      refine lv_goto (tgt := 4) X.1 X.2.1 dX1_common_18 (by decide) ?_
      exact ih _ _ _ _ _ _ hF hP (lh_sub hl [1, 0] rfl)
set_option maxHeartbeats 2000000 in
theorem met_X1_common (l : Launch) (D : va_G) (dA : Nat → ClassId) (ad : Nat → Nat) (g : GT) (ι : S) (sz : Nat) {a0 : Int32} {a1 : Int32} {Q : Int32 → S → Prop} (hF : P_X1_common g a0 a1 ι Q) : CGi l yX1_common cX1_common 5 .int ({ frames := 0, cells := 0, slots := 0, locals := 0 } : Room) D dA ad g ι sz [iX a0, iX a1] Q := by
  unfold P_X1_common at hF
  refine ph_enter [iX a0, iX a1] (Qc := fun A => va_Qi (GQi g Q) (CB D dA ad A) A) (by decide +kernel) (Nat.le_of_ble_eq_true rfl) ?_
  intro p e s m args below meth c A ls X hP hl hnm
  have hl : LH ad ls 5 [(0, iX a0), (1, iX a1)] := hl
  refine ph_iload_n (n := 0) X hl dX1_common_0 rfl rfl ?_
  refine ph_istore_n X hl dX1_common_1 rfl (by decide) rfl (fun ls hl => ?_)
  refine ph_iload_n (n := 2) X hl dX1_common_2 rfl rfl ?_
  refine ph_istore_n X hl dX1_common_3 rfl (by decide) rfl (fun ls hl => ?_)
  obtain ⟨n9, hF⟩ := hF
  exact w_X1_common_4 X n9 _ _ _ _ _ _ hF hP (lh_sub hl [1, 0] rfl)
def P_X1_goings_17 (g : GT) (Q : Int32 → S → Prop) (k4 : Nat → Nat → Int32 → Int32 → S → Prop) : Nat → Nat → Nat → Int32 → Int32 → Int32 → S → Prop
  | 0, _, _, _, _, _, _ => False
  | n + 1, x0, x1, x2, x3, x4, ι => (gK g x0 = 2 ∧ (P_X1_sleepers g x0 ι (fun r1 ι2 => ((r1 ≤ x4 → (k4 x0 x1 x2 (x3 + 1) ι2)) ∧ (¬ r1 ≤ x4 → (gK g (gR g x0 0) = 3 ∧ (gK g x1 = 100 ∧ (vp_in x4 (gL g x1) ∧ (gK g (gR g (gR g x0 0) 6) = 18 ∧ (P_J2_get g (gR g (gR g x0 0) 6) (ι2 x1 x4.toNatClampNeg) ι2 (fun r8 ι9 => (isSl (gK g r8) ∧ (((slWoken (gK g r8)) = 0 → (P_X1_goings_17 g Q k4  n x0 x1 x2 x3 (x4 + 1) ι9)) ∧ (¬ (slWoken (gK g r8)) = 0 → (vp_in x3 (gL g x1) ∧ (P_J2_get g (gR g (gR g x0 0) 6) (ι9 x1 x3.toNatClampNeg) ι9 (fun r17 ι18 => (isSl (gK g r17) ∧ (P_X1_goings_17 g Q k4  n x0 x1 (x2 + (ι18 r17 5)) x3 (x4 + 1) ι18)))))))))))))))))))
def P_X1_goings_4 (g : GT) (Q : Int32 → S → Prop) : Nat → Nat → Nat → Int32 → Int32 → S → Prop
  | 0, _, _, _, _, _ => False
  | n + 1, x0, x1, x2, x3, ι => (gK g x0 = 2 ∧ (P_X1_sleepers g x0 ι (fun r23 ι24 => ((r23 ≤ x3 → (Q x2 ι24)) ∧ (¬ r23 ≤ x3 → (∃ n9, P_X1_goings_17 g Q (fun z0 z1 z2 z3 z4 => P_X1_goings_4 g Q  n z0 z1 z2 z3 z4) n9 x0 x1 x2 x3 (x3 + 1) ι24))))))
def P_X1_goings (g : GT) (a0 : Nat) (a1 : Nat) (ι : S) (Q : Int32 → S → Prop) : Prop := (∃ n9, P_X1_goings_4 g Q n9 a0 a1 0 0 ι)
set_option maxHeartbeats 2000000 in
theorem w_X1_goings_17 (X : CX p s m args c meth cX1_goings 5 (some .int) RX1 D dA ad A) {Q : Int32 → S → Prop} {k4 : Nat → Nat → Int32 → Int32 → S → Prop} (hk4 : ∀ (x0 : Nat) (x1 : Nat) (x2 : Int32) (x3 : Int32) (ι : S) (H : Heap) (locs : List Loc) (ls : Array Slot), k4 x0 x1 x2 x3 ι → PW D dA A s.heap ad (HS g ι) H locs → LH ad ls 5 [(0, pX x0), (1, pX x1), (2, iX x2), (3, iX x3)] → WGi p l e ({ frames := 3, cells := 0, slots := 0, locals := 80 } : Room) s m args below meth c D dA ad A g Q H locs (F0 m 4 ls [])) : ∀ (n : Nat) (x0 : Nat) (x1 : Nat) (x2 : Int32) (x3 : Int32) (x4 : Int32) (ι : S) (H : Heap) (locs : List Loc) (ls : Array Slot), P_X1_goings_17 g Q k4 n x0 x1 x2 x3 x4 ι → PW D dA A s.heap ad (HS g ι) H locs → LH ad ls 5 [(0, pX x0), (1, pX x1), (2, iX x2), (3, iX x3), (4, iX x4)] → WGi p l e ({ frames := 3, cells := 0, slots := 0, locals := 80 } : Room) s m args below meth c D dA ad A g Q H locs (F0 m 17 ls []) := by
  intro n
  induction n with
  | zero =>
    intro x0 x1 x2 x3 x4 ι H locs ls hF
    exact hF.elim
  | succ n ih =>
    intro x0 x1 x2 x3 x4 ι H locs ls hF hP hl
    rw [P_X1_goings_17] at hF
    refine ph_iload (n := 4) X hl dX1_goings_17 rfl ?_
    refine ph_aload_n (n := 0) X hl dX1_goings_19 rfl rfl ?_
    obtain ⟨hm4, hF⟩ := hF
    refine cg_callVi 1 [] X hP hm4 (met_X1_sleepers l D dA ad g _ _ hF) (cwV 0 X.2.2.2.2.1 (lw_V q883 q885 qs6 q98 q886) rfl rfl rfl (by decide +kernel) ⟨Nat.le_of_ble_eq_true rfl, Nat.le_of_ble_eq_true rfl⟩) rfl hl (k8 := 1) (csi (cs0 (k := 0))) (by decide) ⟨Nat.le_refl _, Nat.le_refl _⟩ dX1_goings_20 rfl (fun r1 ι2 H locs hF hP => ?_)
    refine lv_icmp_ge (tgt := 77) X.1 X.2.1 dX1_goings_23 (by decide) (fun c22 => ?_) (fun c22 => ?_)
    · have hF := hF.1 c22
      refine ph_iinc (v := x3 + 1) (k := 3) X hl dX1_goings_77 rfl rfl (by decide) rfl (fun ls hl => ?_)
      refine lv_goto (tgt := 4) X.1 X.2.1 dX1_goings_80 (by decide) ?_
      exact hk4 _ _ _ _ _ _ _ _ hF hP (lh_sub hl [1, 2, 3, 0] rfl)
    · have hF := hF.2 c22
      refine ph_aload_n (n := 0) X hl dX1_goings_26 rfl rfl ?_
      refine cg_getr 1 0 X in_X1 hP hm4 q799 dX1_goings_27 ?_
      obtain ⟨hm5, hF⟩ := hF
      refine cg_getrN 2 6 X in_X2 hP hm5 q538 dX1_goings_30 ?_
      refine ph_aload_n (n := 1) X hl dX1_goings_33 rfl rfl ?_
      refine ph_iload (n := 4) X hl dX1_goings_34 rfl ?_
      obtain ⟨hm6, hF⟩ := hF
      obtain ⟨hr7, hF⟩ := hF
      refine cg_iald X hP hm6 hr7 (k := x4.toNatClampNeg) rfl dX1_goings_36 ?_
      obtain ⟨hm11, hF⟩ := hF
      refine cg_callVq 17 [iX (ι2 x1 x4.toNatClampNeg)] X hP hm11 (met_J2_get l D dA ad g _ _ hF) (cwV 1 X.2.2.2.2.1 (lw_V q930 q778 q779 q102 q780) rfl rfl rfl (by decide +kernel) ⟨Nat.le_of_ble_eq_true rfl, Nat.le_of_ble_eq_true rfl⟩) rfl hl (k8 := 0) (cs0 (k := 0)) (by decide) ⟨Nat.le_refl _, Nat.le_refl _⟩ dX1_goings_37 rfl (fun r8 ι9 H locs hF hv10 hP => ?_)
      obtain ⟨hm12, hF⟩ := hF
      refine cg_castSl X hP hm12 q1133 dX1_goings_40 ?_
      refine cg_v_isWoken X hP hl hm12 q1134 (k8 := 0) (cs0 (k := 0)) (by decide) ⟨Nat.le_of_ble_eq_true rfl, Nat.le_of_ble_eq_true rfl⟩ ⟨Nat.le_refl _, Nat.le_refl _⟩ dX1_goings_43 (fun H locs hP => ?_)
      refine lv_if_eq (tgt := 71) X.1 X.2.1 dX1_goings_46 (by decide) (fun c21 => ?_) (fun c21 => ?_)
      · have hF := hF.1 c21
        refine ph_iinc (v := x4 + 1) (k := 4) X hl dX1_goings_71 rfl rfl (by decide) rfl (fun ls hl => ?_)
        refine lv_goto (tgt := 17) X.1 X.2.1 dX1_goings_74 (by decide) ?_
        exact ih _ _ _ _ _ _ _ _ _ hF hP (lh_sub hl [1, 2, 3, 4, 0] rfl)
      · have hF := hF.2 c21
        refine ph_iload_n (n := 2) X hl dX1_goings_49 rfl rfl ?_
        refine ph_aload_n (n := 0) X hl dX1_goings_50 rfl rfl ?_
        refine cg_getr 1 0 X in_X1 hP hm4 q799 dX1_goings_51 ?_
        refine cg_getrN 2 6 X in_X2 hP hm5 q538 dX1_goings_54 ?_
        refine ph_aload_n (n := 1) X hl dX1_goings_57 rfl rfl ?_
        refine ph_iload_n (n := 3) X hl dX1_goings_58 rfl rfl ?_
        obtain ⟨hr16, hF⟩ := hF
        refine cg_iald X hP hm6 hr16 (k := x3.toNatClampNeg) rfl dX1_goings_59 ?_
        refine cg_callVq 17 [iX (ι9 x1 x3.toNatClampNeg)] X hP hm11 (met_J2_get l D dA ad g _ _ hF) (cwV 1 X.2.2.2.2.1 (lw_V q930 q778 q779 q102 q780) rfl rfl rfl (by decide +kernel) ⟨Nat.le_of_ble_eq_true rfl, Nat.le_of_ble_eq_true rfl⟩) rfl hl (k8 := 1) (csi (cs0 (k := 0))) (by decide) ⟨Nat.le_refl _, Nat.le_refl _⟩ dX1_goings_60 rfl (fun r17 ι18 H locs hF hv19 hP => ?_)
        obtain ⟨hm20, hF⟩ := hF
        refine cg_castSl X hP hm20 q1133 dX1_goings_63 ?_
        refine cg_getSl 5 X hP hm20 q1502 dX1_goings_66 ?_
        refine lv_iadd X.1 X.2.1 dX1_goings_69 ?_
        refine ph_istore_n X hl dX1_goings_70 rfl (by decide) rfl (fun ls hl => ?_)
        refine ph_iinc (v := x4 + 1) (k := 4) X hl dX1_goings_71 rfl rfl (by decide) rfl (fun ls hl => ?_)
        refine lv_goto (tgt := 17) X.1 X.2.1 dX1_goings_74 (by decide) ?_
        exact ih _ _ _ _ _ _ _ _ _ hF hP (lh_sub hl [2, 3, 1, 4, 0] rfl)
set_option maxHeartbeats 2000000 in
theorem w_X1_goings_4 (X : CX p s m args c meth cX1_goings 5 (some .int) RX1 D dA ad A) {Q : Int32 → S → Prop} : ∀ (n : Nat) (x0 : Nat) (x1 : Nat) (x2 : Int32) (x3 : Int32) (ι : S) (H : Heap) (locs : List Loc) (ls : Array Slot), P_X1_goings_4 g Q n x0 x1 x2 x3 ι → PW D dA A s.heap ad (HS g ι) H locs → LH ad ls 5 [(0, pX x0), (1, pX x1), (2, iX x2), (3, iX x3)] → WGi p l e ({ frames := 3, cells := 0, slots := 0, locals := 80 } : Room) s m args below meth c D dA ad A g Q H locs (F0 m 4 ls []) := by
  intro n
  induction n with
  | zero =>
    intro x0 x1 x2 x3 ι H locs ls hF
    exact hF.elim
  | succ n ih =>
    intro x0 x1 x2 x3 ι H locs ls hF hP hl
    rw [P_X1_goings_4] at hF
    refine ph_iload_n (n := 3) X hl dX1_goings_4 rfl rfl ?_
    refine ph_aload_n (n := 0) X hl dX1_goings_5 rfl rfl ?_
    obtain ⟨hm26, hF⟩ := hF
    refine cg_callVi 1 [] X hP hm26 (met_X1_sleepers l D dA ad g _ _ hF) (cwV 0 X.2.2.2.2.1 (lw_V q883 q885 qs6 q98 q886) rfl rfl rfl (by decide +kernel) ⟨Nat.le_of_ble_eq_true rfl, Nat.le_of_ble_eq_true rfl⟩) rfl hl (k8 := 1) (csi (cs0 (k := 0))) (by decide) ⟨Nat.le_refl _, Nat.le_refl _⟩ dX1_goings_6 rfl (fun r23 ι24 H locs hF hP => ?_)
    refine lv_icmp_ge (tgt := 83) X.1 X.2.1 dX1_goings_9 (by decide) (fun c27 => ?_) (fun c27 => ?_)
    · have hF := hF.1 c27
      refine ph_iload_n (n := 2) X hl dX1_goings_83 rfl rfl ?_
      exact cg_iret X hP hF dX1_goings_84
    · have hF := hF.2 c27
      refine ph_iload_n (n := 3) X hl dX1_goings_12 rfl rfl ?_
      refine lv_iconst (v := 1) X.1 X.2.1 dX1_goings_13 (by decide) ?_
      refine lv_iadd X.1 X.2.1 dX1_goings_14 ?_
      refine ph_istore X hl dX1_goings_15 (by decide) rfl (fun ls hl => ?_)
      obtain ⟨n9, hF⟩ := hF
      exact w_X1_goings_17 X ih n9 _ _ _ _ _ _ _ _ _ hF hP (lh_sub hl [1, 2, 3, 4, 0] rfl)
set_option maxHeartbeats 2000000 in
theorem met_X1_goings (l : Launch) (D : va_G) (dA : Nat → ClassId) (ad : Nat → Nat) (g : GT) (ι : S) (sz : Nat) {a0 : Nat} {a1 : Nat} {Q : Int32 → S → Prop} (hF : P_X1_goings g a0 a1 ι Q) : CGi l yX1_goings cX1_goings 5 .int ({ frames := 3, cells := 0, slots := 0, locals := 80 } : Room) D dA ad g ι sz [pX a0, pX a1] Q := by
  unfold P_X1_goings at hF
  refine ph_enter [pX a0, pX a1] (Qc := fun A => va_Qi (GQi g Q) (CB D dA ad A) A) (by decide +kernel) (Nat.le_of_ble_eq_true rfl) ?_
  intro p e s m args below meth c A ls X hP hl hnm
  have hl : LH ad ls 5 [(0, pX a0), (1, pX a1)] := hl
  refine lv_iconst (v := 0) X.1 X.2.1 dX1_goings_0 (by decide) ?_
  refine ph_istore_n X hl dX1_goings_1 rfl (by decide) rfl (fun ls hl => ?_)
  refine lv_iconst (v := 0) X.1 X.2.1 dX1_goings_2 (by decide) ?_
  refine ph_istore_n X hl dX1_goings_3 rfl (by decide) rfl (fun ls hl => ?_)
  obtain ⟨n9, hF⟩ := hF
  exact w_X1_goings_4 X n9 _ _ _ _ _ _ _ _ hF hP (lh_sub hl [2, 3, 1, 0] rfl)
def P_X1_edge_43 (g : GT) (Q : Int32 → S → Prop) (k20 : Nat → Int32 → Int32 → S → Prop) (x0 : Nat) (x3 : Int32) (ι : S) : Prop := (gK g x0 = 2 ∧ (P_X1_keeps g x0 ι (fun ι2 => (P_X1_nextRow g x0 ι2 (fun r5 ι6 => (k20 x0 x3 r5 ι6))))))
def P_X1_edge_20 (g : GT) (Q : Int32 → S → Prop) : Nat → Nat → Int32 → Int32 → S → Prop
  | 0, _, _, _, _ => False
  | n + 1, x0, x1, x2, ι => ((x2 = 0 → (Q x1 ι)) ∧ (¬ x2 = 0 → (gK g x0 = 2 ∧ (P_X1_goings g x0 (gR g x0 16) ι (fun r9 ι10 => ((x1 = (-1) → (P_X1_edge_43 g Q (fun z0 z1 z2 z3 => P_X1_edge_20 g Q  n z0 z1 z2 z3) x0 r9 ι10)) ∧ (¬ x1 = (-1) → ((x1 ≤ r9 → (P_X1_nextRow g x0 ι10 (fun r12 ι13 => (P_X1_edge_20 g Q  n x0 x1 r12 ι13)))) ∧ (¬ x1 ≤ r9 → (P_X1_edge_43 g Q (fun z0 z1 z2 z3 => P_X1_edge_20 g Q  n z0 z1 z2 z3) x0 r9 ι10))))))))))
def P_X1_edge (g : GT) (a0 : Nat) (ι : S) (Q : Int32 → S → Prop) : Prop := (gK g a0 = 2 ∧ (P_X1_sleepers g a0 ι (fun r18 ι19 => ((r18 ≤ 6 → (P_X1_firstRow g a0 ι19 (fun ι23 => (∃ n9, P_X1_edge_20 g Q n9 a0 (-1) 1 ι23)))) ∧ (¬ r18 ≤ 6 → (Q (-2) ι19))))))
set_option maxHeartbeats 2000000 in
theorem w_X1_edge_43 (X : CX p s m args c meth cX1_edge 4 (some .int) RX1 D dA ad A) {Q : Int32 → S → Prop} {k20 : Nat → Int32 → Int32 → S → Prop} (hk20 : ∀ (x0 : Nat) (x1 : Int32) (x2 : Int32) (ι : S) (H : Heap) (locs : List Loc) (ls : Array Slot), k20 x0 x1 x2 ι → PW D dA A s.heap ad (HS g ι) H locs → LH ad ls 4 [(0, pX x0), (1, iX x1), (2, iX x2)] → WGi p l e ({ frames := 4, cells := 0, slots := 0, locals := 104 } : Room) s m args below meth c D dA ad A g Q H locs (F0 m 20 ls [])) : ∀ (x0 : Nat) (x3 : Int32) (ι : S) (H : Heap) (locs : List Loc) (ls : Array Slot), P_X1_edge_43 g Q k20 x0 x3 ι → PW D dA A s.heap ad (HS g ι) H locs → LH ad ls 4 [(0, pX x0), (3, iX x3)] → WGi p l e ({ frames := 4, cells := 0, slots := 0, locals := 104 } : Room) s m args below meth c D dA ad A g Q H locs (F0 m 43 ls []) := by
  intro x0 x3 ι H locs ls hF hP hl
  unfold P_X1_edge_43 at hF
  refine ph_iload_n (n := 1) X hl dX1_edge_43 rfl rfl ?_
  refine ph_istore_n X hl dX1_edge_44 rfl (by decide) rfl (fun ls hl => ?_)
  refine ph_aload_n (n := 1) X hl dX1_edge_45 rfl rfl ?_
  obtain ⟨hm4, hF⟩ := hF
  refine cg_callVv 1 [] X hP hm4 (met_X1_keeps l D dA ad g _ _ hF) (cwV 0 X.2.2.2.2.1 (lw_V q1121 q1123 qs21 q98 q1124) rfl rfl rfl (by decide +kernel) ⟨Nat.le_of_ble_eq_true rfl, Nat.le_of_ble_eq_true rfl⟩) rfl hl (k8 := 0) (cs0 (k := 0)) (by decide) ⟨Nat.le_refl _, Nat.le_refl _⟩ dX1_edge_46 rfl (fun ι2 H locs hF hP => ?_)
  refine ph_aload_n (n := 1) X hl dX1_edge_49 rfl rfl ?_
  refine cg_callVi 1 [] X hP hm4 (met_X1_nextRow l D dA ad g _ _ hF) (cwV 0 X.2.2.2.2.1 (lw_V q944 q946 qs11 q98 q947) rfl rfl rfl (by decide +kernel) ⟨Nat.le_of_ble_eq_true rfl, Nat.le_of_ble_eq_true rfl⟩) rfl hl (k8 := 0) (cs0 (k := 0)) (by decide) ⟨Nat.le_refl _, Nat.le_refl _⟩ dX1_edge_50 rfl (fun r5 ι6 H locs hF hP => ?_)
  refine ph_istore_n X hl dX1_edge_53 rfl (by decide) rfl (fun ls hl => ?_)
  refine lv_goto (tgt := 20) X.1 X.2.1 dX1_edge_54 (by decide) ?_
  exact hk20 _ _ _ _ _ _ _ hF hP (lh_sub hl [2, 1, 0] rfl)
set_option maxHeartbeats 2000000 in
theorem w_X1_edge_20 (X : CX p s m args c meth cX1_edge 4 (some .int) RX1 D dA ad A) {Q : Int32 → S → Prop} : ∀ (n : Nat) (x0 : Nat) (x1 : Int32) (x2 : Int32) (ι : S) (H : Heap) (locs : List Loc) (ls : Array Slot), P_X1_edge_20 g Q n x0 x1 x2 ι → PW D dA A s.heap ad (HS g ι) H locs → LH ad ls 4 [(0, pX x0), (1, iX x1), (2, iX x2)] → WGi p l e ({ frames := 4, cells := 0, slots := 0, locals := 104 } : Room) s m args below meth c D dA ad A g Q H locs (F0 m 20 ls []) := by
  intro n
  induction n with
  | zero =>
    intro x0 x1 x2 ι H locs ls hF
    exact hF.elim
  | succ n ih =>
    intro x0 x1 x2 ι H locs ls hF hP hl
    rw [P_X1_edge_20] at hF
    refine ph_iload_n (n := 2) X hl dX1_edge_20 rfl rfl ?_
    refine lv_if_eq (tgt := 57) X.1 X.2.1 dX1_edge_21 (by decide) (fun c17 => ?_) (fun c17 => ?_)
    · have hF := hF.1 c17
      refine ph_iload_n (n := 1) X hl dX1_edge_57 rfl rfl ?_
      exact cg_iret X hP hF dX1_edge_58
    · have hF := hF.2 c17
      refine ph_aload_n (n := 0) X hl dX1_edge_24 rfl rfl ?_
      refine ph_aload_n (n := 0) X hl dX1_edge_25 rfl rfl ?_
      obtain ⟨hm8, hF⟩ := hF
      refine cg_getr 1 16 X in_X1 hP hm8 q815 dX1_edge_26 ?_
      refine cg_callVi 1 [pX (gR g x0 16)] X hP hm8 (met_X1_goings l D dA ad g _ _ hF) (cwV 1 X.2.2.2.2.1 (lw_V q1129 q1131 qs22 q98 q1132) rfl rfl rfl (by decide +kernel) ⟨Nat.le_of_ble_eq_true rfl, Nat.le_of_ble_eq_true rfl⟩) rfl hl (k8 := 0) (cs0 (k := 0)) (by decide) ⟨Nat.le_refl _, Nat.le_refl _⟩ dX1_edge_29 rfl (fun r9 ι10 H locs hF hP => ?_)
      refine ph_istore_n X hl dX1_edge_32 rfl (by decide) rfl (fun ls hl => ?_)
      refine ph_iload_n (n := 2) X hl dX1_edge_33 rfl rfl ?_
      refine lv_iconst (v := (-1)) X.1 X.2.1 dX1_edge_34 (by decide) ?_
      refine lv_icmp_eq (tgt := 43) X.1 X.2.1 dX1_edge_35 (by decide) (fun c16 => ?_) (fun c16 => ?_)
      · have hF := hF.1 c16
        exact w_X1_edge_43 X ih _ _ _ _ _ _ hF hP (lh_sub hl [1, 0] rfl)
      · have hF := hF.2 c16
        refine ph_iload_n (n := 0) X hl dX1_edge_38 rfl rfl ?_
        refine ph_iload_n (n := 2) X hl dX1_edge_39 rfl rfl ?_
        refine lv_icmp_ge (tgt := 49) X.1 X.2.1 dX1_edge_40 (by decide) (fun c15 => ?_) (fun c15 => ?_)
        · have hF := hF.1 c15
          refine ph_aload_n (n := 1) X hl dX1_edge_49 rfl rfl ?_
          refine cg_callVi 1 [] X hP hm8 (met_X1_nextRow l D dA ad g _ _ hF) (cwV 0 X.2.2.2.2.1 (lw_V q944 q946 qs11 q98 q947) rfl rfl rfl (by decide +kernel) ⟨Nat.le_of_ble_eq_true rfl, Nat.le_of_ble_eq_true rfl⟩) rfl hl (k8 := 0) (cs0 (k := 0)) (by decide) ⟨Nat.le_refl _, Nat.le_refl _⟩ dX1_edge_50 rfl (fun r12 ι13 H locs hF hP => ?_)
          refine ph_istore_n X hl dX1_edge_53 rfl (by decide) rfl (fun ls hl => ?_)
          refine lv_goto (tgt := 20) X.1 X.2.1 dX1_edge_54 (by decide) ?_
          exact ih _ _ _ _ _ _ _ hF hP (lh_sub hl [2, 3, 0] rfl)
        · have hF := hF.2 c15
          exact w_X1_edge_43 X ih _ _ _ _ _ _ hF hP (lh_sub hl [1, 0] rfl)
set_option maxHeartbeats 2000000 in
theorem met_X1_edge (l : Launch) (D : va_G) (dA : Nat → ClassId) (ad : Nat → Nat) (g : GT) (ι : S) (sz : Nat) {a0 : Nat} {Q : Int32 → S → Prop} (hF : P_X1_edge g a0 ι Q) : CGi l yX1_edge cX1_edge 4 .int ({ frames := 4, cells := 0, slots := 0, locals := 104 } : Room) D dA ad g ι sz [pX a0] Q := by
  unfold P_X1_edge at hF
  refine ph_enter [pX a0] (Qc := fun A => va_Qi (GQi g Q) (CB D dA ad A) A) (by decide +kernel) (Nat.le_of_ble_eq_true rfl) ?_
  intro p e s m args below meth c A ls X hP hl hnm
  have hl : LH ad ls 4 [(0, pX a0)] := hl
  refine ph_aload_n (n := 0) X hl dX1_edge_0 rfl rfl ?_
  obtain ⟨hm21, hF⟩ := hF
  refine cg_callVi 1 [] X hP hm21 (met_X1_sleepers l D dA ad g _ _ hF) (cwV 0 X.2.2.2.2.1 (lw_V q883 q885 qs6 q98 q886) rfl rfl rfl (by decide +kernel) ⟨Nat.le_of_ble_eq_true rfl, Nat.le_of_ble_eq_true rfl⟩) rfl hl (k8 := 0) (cs0 (k := 0)) (by decide) ⟨Nat.le_refl _, Nat.le_refl _⟩ dX1_edge_1 rfl (fun r18 ι19 H locs hF hP => ?_)
  refine lv_bipush (v := 6) X.1 X.2.1 dX1_edge_4 (by decide) ?_
  refine lv_icmp_le (tgt := 12) X.1 X.2.1 dX1_edge_6 (by decide) (fun c25 => ?_) (fun c25 => ?_)
  · have hF := hF.1 c25
    refine lv_iconst (v := (-1)) X.1 X.2.1 dX1_edge_12 (by decide) ?_
    refine ph_istore_n X hl dX1_edge_13 rfl (by decide) rfl (fun ls hl => ?_)
    refine ph_aload_n (n := 1) X hl dX1_edge_14 rfl rfl ?_
    refine cg_callVv 1 [] X hP hm21 (met_X1_firstRow l D dA ad g _ _ hF) (cwV 0 X.2.2.2.2.1 (lw_V q936 q938 qs9 q98 q939) rfl rfl rfl (by decide +kernel) ⟨Nat.le_of_ble_eq_true rfl, Nat.le_of_ble_eq_true rfl⟩) rfl hl (k8 := 0) (cs0 (k := 0)) (by decide) ⟨Nat.le_refl _, Nat.le_refl _⟩ dX1_edge_15 rfl (fun ι23 H locs hF hP => ?_)
    refine lv_iconst (v := 1) X.1 X.2.1 dX1_edge_18 (by decide) ?_
    refine ph_istore_n X hl dX1_edge_19 rfl (by decide) rfl (fun ls hl => ?_)
    obtain ⟨n9, hF⟩ := hF
    exact w_X1_edge_20 X n9 _ _ _ _ _ _ _ hF hP (lh_sub hl [2, 1, 0] rfl)
  · have hF := hF.2 c25
    refine lv_bipush (v := (-2)) X.1 X.2.1 dX1_edge_9 (by decide) ?_
    exact cg_iret X hP hF dX1_edge_11
def P_X1_forget (g : GT) (a0 : Nat) (ι : S) (Q : Int32 → S → Prop) : Prop := (gK g a0 = 2 ∧ (gK g (gR g a0 1) = 5 ∧ ((¬ (ι (gR g a0 1) 7) = 0 → (∀ ι3, ι3 = up2 ι (gR g a0 1) 7 ((ι (gR g a0 1) 7) - 1) → (Q (ι3 (gR g a0 1) 7) ι3))) ∧ ((ι (gR g a0 1) 7) = 0 → (Q (-1) ι)))))
set_option maxHeartbeats 2000000 in
theorem met_X1_forget (l : Launch) (D : va_G) (dA : Nat → ClassId) (ad : Nat → Nat) (g : GT) (ι : S) (sz : Nat) {a0 : Nat} {Q : Int32 → S → Prop} (hF : P_X1_forget g a0 ι Q) : CGi l yX1_forget cX1_forget 1 .int ({ frames := 0, cells := 0, slots := 0, locals := 0 } : Room) D dA ad g ι sz [pX a0] Q := by
  unfold P_X1_forget at hF
  refine ph_enter [pX a0] (Qc := fun A => va_Qi (GQi g Q) (CB D dA ad A) A) (by decide +kernel) (Nat.le_of_ble_eq_true rfl) ?_
  intro p e s m args below meth c A ls X hP hl hnm
  have hl : LH ad ls 1 [(0, pX a0)] := hl
  refine ph_aload_n (n := 0) X hl dX1_forget_0 rfl rfl ?_
  obtain ⟨hm1, hF⟩ := hF
  refine cg_getr 1 1 X in_X1 hP hm1 q800 dX1_forget_1 ?_
  obtain ⟨hm2, hF⟩ := hF
  refine cg_getiN 4 7 X in_X5 hP hm2 q691 dX1_forget_4 ?_
  refine lv_if_ne (tgt := 12) X.1 X.2.1 dX1_forget_7 (by decide) (fun c4 => ?_) (fun c4 => ?_)
  · have hF := hF.1 c4
    refine ph_aload_n (n := 0) X hl dX1_forget_12 rfl rfl ?_
    refine cg_getr 1 1 X in_X1 hP hm1 q800 dX1_forget_13 ?_
    refine ph_dup_r X dX1_forget_16 ?_
    refine cg_getiN 4 7 X in_X5 hP hm2 q691 dX1_forget_17 ?_
    refine lv_iconst (v := 1) X.1 X.2.1 dX1_forget_20 (by decide) ?_
    refine lv_isub X.1 X.2.1 dX1_forget_21 ?_
    refine cg_putiN 4 7 X in_X5 tyX5 tyX5_ok nmX5 hP hm2 q691 dX1_forget_22 hF (fun H locs ι3 hP hF => ?_)
    refine ph_aload_n (n := 0) X hl dX1_forget_25 rfl rfl ?_
    refine cg_getr 1 1 X in_X1 hP hm1 q800 dX1_forget_26 ?_
    refine cg_getiN 4 7 X in_X5 hP hm2 q691 dX1_forget_29 ?_
    exact cg_iret X hP hF dX1_forget_32
  · have hF := hF.2 c4
    refine lv_iconst (v := (-1)) X.1 X.2.1 dX1_forget_10 (by decide) ?_
    exact cg_iret X hP hF dX1_forget_11
def P_X1_isSeen_2 (g : GT) (Q : Int32 → S → Prop) : Nat → Nat → Int32 → S → Prop
  | 0, _, _, _ => False
  | n + 1, x0, x1, ι => (gK g x0 = 2 ∧ (gK g (gR g x0 1) = 5 ∧ (((ι (gR g x0 1) 7) ≤ x1 → (Q 1 ι)) ∧ (¬ (ι (gR g x0 1) 7) ≤ x1 → (gK g (gR g x0 11) = 7 ∧ (gK g (gR g x0 0) = 3 ∧ (gK g (gR g (gR g x0 1) 3) = 100 ∧ (vp_in x1 (gL g (gR g (gR g x0 1) 3)) ∧ ((¬ (ι (gR g x0 11) 14) = (if (ι (gR g (gR g x0 1) 3) x1.toNatClampNeg) < (ι (gR g x0 0) 2) then ι (gR g (gR g x0 1) 3) x1.toNatClampNeg else ι (gR g x0 0) 2) → (P_X1_isSeen_2 g Q  n x0 (x1 + 1) ι)) ∧ ((ι (gR g x0 11) 14) = (if (ι (gR g (gR g x0 1) 3) x1.toNatClampNeg) < (ι (gR g x0 0) 2) then ι (gR g (gR g x0 1) 3) x1.toNatClampNeg else ι (gR g x0 0) 2) → (gK g (gR g (gR g x0 1) 2) = 100 ∧ (vp_in x1 (gL g (gR g (gR g x0 1) 2)) ∧ (gK g (gR g (gR g x0 11) 2) = 100 ∧ (vp_in (ι (gR g (gR g x0 1) 2) x1.toNatClampNeg) (gL g (gR g (gR g x0 11) 2)) ∧ (gK g (gR g (gR g x0 1) 4) = 100 ∧ (vp_in x1 (gL g (gR g (gR g x0 1) 4)) ∧ (((ι (gR g (gR g x0 11) 2) ((ι (gR g (gR g x0 1) 2) x1.toNatClampNeg).toNatClampNeg)) = (ι (gR g (gR g x0 1) 4) x1.toNatClampNeg) → (P_X1_isSeen_2 g Q  n x0 (x1 + 1) ι)) ∧ (¬ (ι (gR g (gR g x0 11) 2) ((ι (gR g (gR g x0 1) 2) x1.toNatClampNeg).toNatClampNeg)) = (ι (gR g (gR g x0 1) 4) x1.toNatClampNeg) → (Q 0 ι)))))))))))))))))))
def P_X1_isSeen (g : GT) (a0 : Nat) (ι : S) (Q : Int32 → S → Prop) : Prop := (∃ n9, P_X1_isSeen_2 g Q n9 a0 0 ι)
set_option maxHeartbeats 2000000 in
theorem w_X1_isSeen_2 (X : CX p s m args c meth cX1_isSeen 2 (some .boolean) RX1 D dA ad A) {Q : Int32 → S → Prop} : ∀ (n : Nat) (x0 : Nat) (x1 : Int32) (ι : S) (H : Heap) (locs : List Loc) (ls : Array Slot), P_X1_isSeen_2 g Q n x0 x1 ι → PW D dA A s.heap ad (HS g ι) H locs → LH ad ls 2 [(0, pX x0), (1, iX x1)] → WGi p l e ({ frames := 1, cells := 0, slots := 0, locals := 14 } : Room) s m args below meth c D dA ad A g Q H locs (F0 m 2 ls []) := by
  intro n
  induction n with
  | zero =>
    intro x0 x1 ι H locs ls hF
    exact hF.elim
  | succ n ih =>
    intro x0 x1 ι H locs ls hF hP hl
    rw [P_X1_isSeen_2] at hF
    refine ph_iload_n (n := 1) X hl dX1_isSeen_2 rfl rfl ?_
    refine ph_aload_n (n := 0) X hl dX1_isSeen_3 rfl rfl ?_
    obtain ⟨hm1, hF⟩ := hF
    refine cg_getr 1 1 X in_X1 hP hm1 q800 dX1_isSeen_4 ?_
    obtain ⟨hm2, hF⟩ := hF
    refine cg_getiN 4 7 X in_X5 hP hm2 q691 dX1_isSeen_7 ?_
    refine lv_icmp_ge (tgt := 79) X.1 X.2.1 dX1_isSeen_10 (by decide) (fun c15 => ?_) (fun c15 => ?_)
    · have hF := hF.1 c15
      refine lv_iconst (v := 1) X.1 X.2.1 dX1_isSeen_79 (by decide) ?_
      exact cg_zret X hP isB_1 hF dX1_isSeen_80
    · have hF := hF.2 c15
      refine ph_aload_n (n := 0) X hl dX1_isSeen_13 rfl rfl ?_
      refine cg_getr 1 11 X in_X1 hP hm1 q810 dX1_isSeen_14 ?_
      obtain ⟨hm3, hF⟩ := hF
      refine cg_getiN 6 14 X in_X7 hP hm3 q737 dX1_isSeen_17 ?_
      refine ph_aload_n (n := 0) X hl dX1_isSeen_20 rfl rfl ?_
      refine cg_getr 1 0 X in_X1 hP hm1 q799 dX1_isSeen_21 ?_
      obtain ⟨hm4, hF⟩ := hF
      refine cg_getiN 2 2 X in_X2 hP hm4 q524 dX1_isSeen_24 ?_
      refine ph_aload_n (n := 0) X hl dX1_isSeen_27 rfl rfl ?_
      refine cg_getr 1 1 X in_X1 hP hm1 q800 dX1_isSeen_28 ?_
      refine cg_getrN 4 3 X in_X5 hP hm2 q683 dX1_isSeen_31 ?_
      refine ph_iload_n (n := 1) X hl dX1_isSeen_34 rfl rfl ?_
      obtain ⟨hm5, hF⟩ := hF
      obtain ⟨hr6, hF⟩ := hF
      refine cg_iald X hP hm5 hr6 (k := x1.toNatClampNeg) rfl dX1_isSeen_35 ?_
      refine va_mmin X.1 X.2.1 (X.2.2.1.trans hl.1.symm) X.2.2.2.1 (X.2.2.2.2.1 _ q1726) (X.2.2.2.2.1 _ q285) (X.2.2.2.2.1 _ q112) (X.2.2.2.2.1 _ q286) (Nat.le_of_ble_eq_true rfl) (Nat.le_trans (Nat.add_le_add_right (csi (cs0 (k := 0))) 13) (Nat.le_of_ble_eq_true rfl)) (Nat.le_refl _) (Nat.le_refl _) dX1_isSeen_36 ?_
      refine lv_icmp_ne (tgt := 73) X.1 X.2.1 dX1_isSeen_39 (by decide) (fun c14 => ?_) (fun c14 => ?_)
      · have hF := hF.1 c14
        refine ph_iinc (v := x1 + 1) (k := 1) X hl dX1_isSeen_73 rfl rfl (by decide) rfl (fun ls hl => ?_)
        refine lv_goto (tgt := 2) X.1 X.2.1 dX1_isSeen_76 (by decide) ?_
        exact ih _ _ _ _ _ _ hF hP (lh_sub hl [1, 0] rfl)
      · have hF := hF.2 c14
        refine ph_aload_n (n := 0) X hl dX1_isSeen_42 rfl rfl ?_
        refine cg_getr 1 11 X in_X1 hP hm1 q810 dX1_isSeen_43 ?_
        refine cg_getrN 6 2 X in_X7 hP hm3 q720 dX1_isSeen_46 ?_
        refine ph_aload_n (n := 0) X hl dX1_isSeen_49 rfl rfl ?_
        refine cg_getr 1 1 X in_X1 hP hm1 q800 dX1_isSeen_50 ?_
        refine cg_getrN 4 2 X in_X5 hP hm2 q681 dX1_isSeen_53 ?_
        refine ph_iload_n (n := 1) X hl dX1_isSeen_56 rfl rfl ?_
        obtain ⟨hm7, hF⟩ := hF
        obtain ⟨hr8, hF⟩ := hF
        refine cg_iald X hP hm7 hr8 (k := x1.toNatClampNeg) rfl dX1_isSeen_57 ?_
        obtain ⟨hm9, hF⟩ := hF
        obtain ⟨hr10, hF⟩ := hF
        refine cg_iald X hP hm9 hr10 (k := (ι (gR g (gR g x0 1) 2) x1.toNatClampNeg).toNatClampNeg) rfl dX1_isSeen_58 ?_
        refine ph_aload_n (n := 0) X hl dX1_isSeen_59 rfl rfl ?_
        refine cg_getr 1 1 X in_X1 hP hm1 q800 dX1_isSeen_60 ?_
        refine cg_getrN 4 4 X in_X5 hP hm2 q685 dX1_isSeen_63 ?_
        refine ph_iload_n (n := 1) X hl dX1_isSeen_66 rfl rfl ?_
        obtain ⟨hm11, hF⟩ := hF
        obtain ⟨hr12, hF⟩ := hF
        refine cg_iald X hP hm11 hr12 (k := x1.toNatClampNeg) rfl dX1_isSeen_67 ?_
        refine lv_icmp_eq (tgt := 73) X.1 X.2.1 dX1_isSeen_68 (by decide) (fun c13 => ?_) (fun c13 => ?_)
        · have hF := hF.1 c13
          refine ph_iinc (v := x1 + 1) (k := 1) X hl dX1_isSeen_73 rfl rfl (by decide) rfl (fun ls hl => ?_)
          refine lv_goto (tgt := 2) X.1 X.2.1 dX1_isSeen_76 (by decide) ?_
          exact ih _ _ _ _ _ _ hF hP (lh_sub hl [1, 0] rfl)
        · have hF := hF.2 c13
          refine lv_iconst (v := 0) X.1 X.2.1 dX1_isSeen_71 (by decide) ?_
          exact cg_zret X hP isB_0 hF dX1_isSeen_72
set_option maxHeartbeats 2000000 in
theorem met_X1_isSeen (l : Launch) (D : va_G) (dA : Nat → ClassId) (ad : Nat → Nat) (g : GT) (ι : S) (sz : Nat) {a0 : Nat} {Q : Int32 → S → Prop} (hF : P_X1_isSeen g a0 ι Q) : CGi l yX1_isSeen cX1_isSeen 2 .boolean ({ frames := 1, cells := 0, slots := 0, locals := 14 } : Room) D dA ad g ι sz [pX a0] Q := by
  unfold P_X1_isSeen at hF
  refine ph_enter [pX a0] (Qc := fun A => va_Qi (GQi g Q) (CB D dA ad A) A) (by decide +kernel) (Nat.le_of_ble_eq_true rfl) ?_
  intro p e s m args below meth c A ls X hP hl hnm
  have hl : LH ad ls 2 [(0, pX a0)] := hl
  refine lv_iconst (v := 0) X.1 X.2.1 dX1_isSeen_0 (by decide) ?_
  refine ph_istore_n X hl dX1_isSeen_1 rfl (by decide) rfl (fun ls hl => ?_)
  obtain ⟨n9, hF⟩ := hF
  exact w_X1_isSeen_2 X n9 _ _ _ _ _ _ hF hP (lh_sub hl [1, 0] rfl)
def P_X1_draw (g : GT) (a0 : Nat) (a1 : Int32) (ι : S) (Q : Int32 → S → Prop) : Prop := (gK g a0 = 2 ∧ (∀ ι2, ι2 = up2 ι a0 20 (((ι a0 20) * 1103515245) + 12345) → (¬ a1 = 0 ∧ (Q ((((ι2 a0 20) >>> ((16 : Int32) &&& 31)) &&& 32767) - (((ι2 a0 20) >>> ((16 : Int32) &&& 31)) &&& 32767) / a1 * a1) ι2))))
set_option maxHeartbeats 2000000 in
theorem met_X1_draw (l : Launch) (D : va_G) (dA : Nat → ClassId) (ad : Nat → Nat) (g : GT) (ι : S) (sz : Nat) {a0 : Nat} {a1 : Int32} {Q : Int32 → S → Prop} (hF : P_X1_draw g a0 a1 ι Q) : CGi l yX1_draw cX1_draw 2 .int ({ frames := 0, cells := 0, slots := 0, locals := 0 } : Room) D dA ad g ι sz [pX a0, iX a1] Q := by
  unfold P_X1_draw at hF
  refine ph_enter [pX a0, iX a1] (Qc := fun A => va_Qi (GQi g Q) (CB D dA ad A) A) (by decide +kernel) (Nat.le_of_ble_eq_true rfl) ?_
  intro p e s m args below meth c A ls X hP hl hnm
  have hl : LH ad ls 2 [(0, pX a0), (1, iX a1)] := hl
  refine ph_aload_n (n := 0) X hl dX1_draw_0 rfl rfl ?_
  refine ph_aload_n (n := 0) X hl dX1_draw_1 rfl rfl ?_
  obtain ⟨hm1, hF⟩ := hF
  refine cg_geti 1 20 X in_X1 hP hm1 q819 dX1_draw_2 ?_
  refine lv_ldcw (v := 1103515245) X.1 X.2.1 X.2.2.2.1 (X.2.2.2.2.1 _ q1751) dX1_draw_5 ?_
  refine lv_imul X.1 X.2.1 dX1_draw_8 ?_
  refine lv_sipush (v := 12345) X.1 X.2.1 dX1_draw_9 (by decide) ?_
  refine lv_iadd X.1 X.2.1 dX1_draw_12 ?_
  refine cg_puti 1 20 X in_X1 tyX1 tyX1_ok nmX1 hP hm1 q819 dX1_draw_13 hF (fun H locs ι2 hP hF => ?_)
  refine ph_aload_n (n := 0) X hl dX1_draw_16 rfl rfl ?_
  refine cg_geti 1 20 X in_X1 hP hm1 q819 dX1_draw_17 ?_
  refine lv_bipush (v := 16) X.1 X.2.1 dX1_draw_20 (by decide) ?_
  refine lv_ishr X.1 X.2.1 dX1_draw_22 ?_
  refine lv_sipush (v := 32767) X.1 X.2.1 dX1_draw_23 (by decide) ?_
  refine lv_iand X.1 X.2.1 dX1_draw_26 ?_
  refine ph_iload_n (n := 1) X hl dX1_draw_27 rfl rfl ?_
  obtain ⟨hz3, hF⟩ := hF
  refine lv_irem X.1 X.2.1 dX1_draw_28 hz3 ?_
  exact cg_iret X hP hF dX1_draw_29
def P_X1_undo (g : GT) (a0 : Nat) (ι : S) (Q : Int32 → S → Prop) : Prop := (gK g a0 = 2 ∧ (gK g (gR g a0 1) = 5 ∧ ((¬ (ι (gR g a0 1) 6) = 0 → (∀ ι3, ι3 = up2 ι (gR g a0 1) 6 ((ι (gR g a0 1) 6) - 1) → (gK g (gR g (gR g a0 1) 1) = 18 ∧ (P_J2_get g (gR g (gR g a0 1) 1) (ι3 (gR g a0 1) 6) ι3 (fun r4 ι5 => (gK g r4 = 6 ∧ (gK g (gR g a0 3) = 6 ∧ (P_X6_like g (gR g a0 3) r4 ι5 (fun ι10 => (Q (ι10 (gR g a0 1) 6) ι10)))))))))) ∧ ((ι (gR g a0 1) 6) = 0 → (Q (-1) ι)))))
set_option maxHeartbeats 2000000 in
theorem met_X1_undo (l : Launch) (D : va_G) (dA : Nat → ClassId) (ad : Nat → Nat) (g : GT) (ι : S) (sz : Nat) {a0 : Nat} {Q : Int32 → S → Prop} (hF : P_X1_undo g a0 ι Q) : CGi l yX1_undo cX1_undo 1 .int ({ frames := 3, cells := 0, slots := 0, locals := 81 } : Room) D dA ad g ι sz [pX a0] Q := by
  unfold P_X1_undo at hF
  refine ph_enter [pX a0] (Qc := fun A => va_Qi (GQi g Q) (CB D dA ad A) A) (by decide +kernel) (Nat.le_of_ble_eq_true rfl) ?_
  intro p e s m args below meth c A ls X hP hl hnm
  have hl : LH ad ls 1 [(0, pX a0)] := hl
  refine ph_aload_n (n := 0) X hl dX1_undo_0 rfl rfl ?_
  obtain ⟨hm1, hF⟩ := hF
  refine cg_getr 1 1 X in_X1 hP hm1 q800 dX1_undo_1 ?_
  obtain ⟨hm2, hF⟩ := hF
  refine cg_getiN 4 6 X in_X5 hP hm2 q689 dX1_undo_4 ?_
  refine lv_if_ne (tgt := 12) X.1 X.2.1 dX1_undo_7 (by decide) (fun c13 => ?_) (fun c13 => ?_)
  · have hF := hF.1 c13
    refine ph_aload_n (n := 0) X hl dX1_undo_12 rfl rfl ?_
    refine cg_getr 1 1 X in_X1 hP hm1 q800 dX1_undo_13 ?_
    refine ph_dup_r X dX1_undo_16 ?_
    refine cg_getiN 4 6 X in_X5 hP hm2 q689 dX1_undo_17 ?_
    refine lv_iconst (v := 1) X.1 X.2.1 dX1_undo_20 (by decide) ?_
    refine lv_isub X.1 X.2.1 dX1_undo_21 ?_
    refine cg_putiN 4 6 X in_X5 tyX5 tyX5_ok nmX5 hP hm2 q689 dX1_undo_22 hF (fun H locs ι3 hP hF => ?_)
    refine ph_aload_n (n := 0) X hl dX1_undo_25 rfl rfl ?_
    refine cg_getr 1 3 X in_X1 hP hm1 q802 dX1_undo_26 ?_
    refine ph_aload_n (n := 0) X hl dX1_undo_29 rfl rfl ?_
    refine cg_getr 1 1 X in_X1 hP hm1 q800 dX1_undo_30 ?_
    refine cg_getrN 4 1 X in_X5 hP hm2 q679 dX1_undo_33 ?_
    refine ph_aload_n (n := 0) X hl dX1_undo_36 rfl rfl ?_
    refine cg_getr 1 1 X in_X1 hP hm1 q800 dX1_undo_37 ?_
    refine cg_getiN 4 6 X in_X5 hP hm2 q689 dX1_undo_40 ?_
    obtain ⟨hm7, hF⟩ := hF
    refine cg_callVq 17 [iX (ι3 (gR g a0 1) 6)] X hP hm7 (met_J2_get l D dA ad g _ _ hF) (cwV 1 X.2.2.2.2.1 (lw_V q930 q778 q779 q102 q780) rfl rfl rfl (by decide +kernel) ⟨Nat.le_of_ble_eq_true rfl, Nat.le_of_ble_eq_true rfl⟩) rfl hl (k8 := 1) (csr (cs0 (k := 0))) (by decide) ⟨Nat.le_refl _, Nat.le_refl _⟩ dX1_undo_43 rfl (fun r4 ι5 H locs hF hv6 hP => ?_)
    obtain ⟨hm8, hF⟩ := hF
    refine cg_castS 5 X hP hm8 q709 dX1_undo_46 ?_
    obtain ⟨hm12, hF⟩ := hF
    refine cg_callVv 5 [pX r4] X hP hm12 (met_X6_like l D dA ad g _ _ hF) (cwV 1 X.2.2.2.2.1 (lw_V q931 q907 q908 q123 q909) rfl rfl rfl (by decide +kernel) ⟨Nat.le_of_ble_eq_true rfl, Nat.le_of_ble_eq_true rfl⟩) rfl hl (k8 := 0) (cs0 (k := 0)) (by decide) ⟨Nat.le_refl _, Nat.le_refl _⟩ dX1_undo_49 rfl (fun ι10 H locs hF hP => ?_)
    refine ph_aload_n (n := 0) X hl dX1_undo_52 rfl rfl ?_
    refine cg_getr 1 1 X in_X1 hP hm1 q800 dX1_undo_53 ?_
    refine cg_getiN 4 6 X in_X5 hP hm2 q689 dX1_undo_56 ?_
    exact cg_iret X hP hF dX1_undo_59
  · have hF := hF.2 c13
    refine lv_iconst (v := (-1)) X.1 X.2.1 dX1_undo_10 (by decide) ?_
    exact cg_iret X hP hF dX1_undo_11
def P_X1_restore (g : GT) (a0 : Nat) (ι : S) (Q : Int32 → S → Prop) : Prop := (gK g a0 = 2 ∧ ((¬ (ι a0 12) = 0 → (gK g (gR g a0 1) = 5 ∧ (P_X5_like g (gR g a0 1) (gR g a0 2) ι (fun ι3 => (Q 1 ι3))))) ∧ ((ι a0 12) = 0 → (Q 0 ι))))
set_option maxHeartbeats 2000000 in
theorem met_X1_restore (l : Launch) (D : va_G) (dA : Nat → ClassId) (ad : Nat → Nat) (g : GT) (ι : S) (sz : Nat) {a0 : Nat} {Q : Int32 → S → Prop} (hF : P_X1_restore g a0 ι Q) : CGi l yX1_restore cX1_restore 1 .boolean ({ frames := 4, cells := 0, slots := 0, locals := 103 } : Room) D dA ad g ι sz [pX a0] Q := by
  unfold P_X1_restore at hF
  refine ph_enter [pX a0] (Qc := fun A => va_Qi (GQi g Q) (CB D dA ad A) A) (by decide +kernel) (Nat.le_of_ble_eq_true rfl) ?_
  intro p e s m args below meth c A ls X hP hl hnm
  have hl : LH ad ls 1 [(0, pX a0)] := hl
  refine ph_aload_n (n := 0) X hl dX1_restore_0 rfl rfl ?_
  obtain ⟨hm1, hF⟩ := hF
  refine cg_geti 1 12 X in_X1 hP hm1 q811 dX1_restore_1 ?_
  refine lv_if_ne (tgt := 9) X.1 X.2.1 dX1_restore_4 (by decide) (fun c6 => ?_) (fun c6 => ?_)
  · have hF := hF.1 c6
    refine ph_aload_n (n := 0) X hl dX1_restore_9 rfl rfl ?_
    refine cg_getr 1 1 X in_X1 hP hm1 q800 dX1_restore_10 ?_
    refine ph_aload_n (n := 0) X hl dX1_restore_13 rfl rfl ?_
    refine cg_getr 1 2 X in_X1 hP hm1 q801 dX1_restore_14 ?_
    obtain ⟨hm5, hF⟩ := hF
    refine cg_callVv 4 [pX (gR g a0 2)] X hP hm5 (met_X5_like l D dA ad g _ _ hF) (cwV 1 X.2.2.2.2.1 (lw_V q1143 q1144 q1145 q122 q1146) rfl rfl rfl (by decide +kernel) ⟨Nat.le_of_ble_eq_true rfl, Nat.le_of_ble_eq_true rfl⟩) rfl hl (k8 := 0) (cs0 (k := 0)) (by decide) ⟨Nat.le_refl _, Nat.le_refl _⟩ dX1_restore_17 rfl (fun ι3 H locs hF hP => ?_)
    refine lv_iconst (v := 1) X.1 X.2.1 dX1_restore_20 (by decide) ?_
    exact cg_zret X hP isB_1 hF dX1_restore_21
  · have hF := hF.2 c6
    refine lv_iconst (v := 0) X.1 X.2.1 dX1_restore_7 (by decide) ?_
    exact cg_zret X hP isB_0 hF dX1_restore_8
def P_X1_image (g : GT) (a0 : Nat) (ι : S) (Q : S → Prop) : Prop := (gK g a0 = 2 ∧ (gK g (gR g a0 2) = 5 ∧ (P_X5_like g (gR g a0 2) (gR g a0 1) ι (fun ι3 => (∀ ι6, ι6 = up2 ι3 a0 12 1 → (Q ι6))))))
set_option maxHeartbeats 2000000 in
theorem met_X1_image (l : Launch) (D : va_G) (dA : Nat → ClassId) (ad : Nat → Nat) (g : GT) (ι : S) (sz : Nat) {a0 : Nat} {Q : S → Prop} (hF : P_X1_image g a0 ι Q) : CGv l yX1_image cX1_image 1 ({ frames := 4, cells := 0, slots := 0, locals := 103 } : Room) D dA ad g ι sz [pX a0] Q := by
  unfold P_X1_image at hF
  refine ph_enter [pX a0] (Qc := fun A => va_Qv (GQv g Q) (CB D dA ad A) A) (by decide +kernel) (Nat.le_of_ble_eq_true rfl) ?_
  intro p e s m args below meth c A ls X hP hl hnm
  have hl : LH ad ls 1 [(0, pX a0)] := hl
  refine ph_aload_n (n := 0) X hl dX1_image_0 rfl rfl ?_
  obtain ⟨hm1, hF⟩ := hF
  refine cg_getr 1 2 X in_X1 hP hm1 q801 dX1_image_1 ?_
  refine ph_aload_n (n := 0) X hl dX1_image_4 rfl rfl ?_
  refine cg_getr 1 1 X in_X1 hP hm1 q800 dX1_image_5 ?_
  obtain ⟨hm5, hF⟩ := hF
  refine cg_callVv 4 [pX (gR g a0 1)] X hP hm5 (met_X5_like l D dA ad g _ _ hF) (cwV 1 X.2.2.2.2.1 (lw_V q1143 q1144 q1145 q122 q1146) rfl rfl rfl (by decide +kernel) ⟨Nat.le_of_ble_eq_true rfl, Nat.le_of_ble_eq_true rfl⟩) rfl hl (k8 := 0) (cs0 (k := 0)) (by decide) ⟨Nat.le_refl _, Nat.le_refl _⟩ dX1_image_8 rfl (fun ι3 H locs hF hP => ?_)
  refine ph_aload_n (n := 0) X hl dX1_image_11 rfl rfl ?_
  refine lv_iconst (v := 1) X.1 X.2.1 dX1_image_12 (by decide) ?_
  refine cg_putz 1 12 X in_X1 tyX1 tyX1_ok nmX1 hP hm1 q811 dX1_image_13 isB_1 hF (fun H locs ι6 hP hF => ?_)
  exact cg_vret X hP hF dX1_image_16
end CGA
