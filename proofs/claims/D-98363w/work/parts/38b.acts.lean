set_option maxRecDepth 100000
section HGA
variable {p : Program} {l : Launch} {e : Env} {s : State} {m : MethodId} {args : Array Value} {below : List Frame} {meth : Method} {c : Code} {D : va_G} {dA : Nat → ClassId} {ad0 : Nat → Nat} {A : Nat → Prop} {g0 : GT}
def P_X1_swap (BC BS : Nat) (a0 : Nat) (a1 : Int32) (a2 : Int32) (g : GT) (ι : S) (Q : Int32 → GT → S → Prop) : Prop := (gK g a0 = 2 ∧ (P_X1_isPlace g a0 a1 ι (fun r1 ι2 => ((r1 = 0 → (P_X1_refuses g a0 1 ι2 (fun r5 ι6 => (Q 0 g ι6)))) ∧ (¬ r1 = 0 → (P_X1_isPlace g a0 a2 ι2 (fun r8 ι9 => ((r8 = 0 → (P_X1_refuses g a0 1 ι9 (fun r11 ι12 => (Q 0 g ι12)))) ∧ (¬ r8 = 0 → ((¬ a1 = a2 → (a0 < 200 + gN g ∧ (∃ b16 d17, ((0 + b16 ≤ BC ∧ 0 + d17 ≤ BS) ∧ (gK g (gR g a0 1) = 5 ∧ (P_X5_keeps b16 d17 (gR g a0 1) g ι9 (fun g19 ι20 => (gK g19 a0 = 2 ∧ (gK g19 (gR g19 a0 3) = 6 ∧ (P_X6_swap g19 (gR g19 a0 3) a1 a2 ι20 (fun ι27 => (Q 1 g19 ι27)))))))))))) ∧ (a1 = a2 → (P_X1_refuses g a0 1 ι9 (fun r31 ι32 => (Q 0 g ι32))))))))))))))
set_option maxHeartbeats 2000000 in
theorem we_X1_swap (hnm : meth.name = "swap") {BC BS : Nat} {Q : Int32 → GT → S → Prop} : ∀ (a0 : Nat) (a1 : Int32) (a2 : Int32) (g : GT) (ι : S) (ad : Nat → Nat) (H : Heap) (locs : List Loc) (ls : Array Slot), P_X1_swap BC BS a0 a1 a2 g ι Q → CX p s m args c meth cX1_swap 3 (some .boolean) RX1 D dA ad A → PW D dA A s.heap ad (HS g ι) H locs → HA ad0 g0 ad g → LH ad ls 3 [(0, pX a0), (1, iX a1), (2, iX a2)] → WHi p l e ({ frames := 8, cells := BC, slots := BS, locals := 211 } : Room) s m args below meth c D dA ad0 g0 A Q BC BS H locs (0) (0) (F0 m 0 ls []) := by
  intro a0 a1 a2 g ι ad H locs ls hF X hP hag hl
  unfold P_X1_swap at hF
  refine ph_aload_n (n := 0) X hl dX1_swap_0 rfl rfl ?_
  refine ph_iload_n (n := 1) X hl dX1_swap_1 rfl rfl ?_
  obtain ⟨hm4, hF⟩ := hF
  refine cg_callVi 1 [iX a1] X hP hm4 (met_X1_isPlace l D dA ad g _ _ hF) (cwV 1 X.2.2.2.2.1 (lw_V q879 q881 qs5 q98 q882) rfl rfl rfl (by decide +kernel) ⟨Nat.le_of_ble_eq_true rfl, Nat.le_of_ble_eq_true rfl⟩) rfl hl (k8 := 0) (cs0 (k := 0)) (by decide) ⟨Nat.zero_le _, Nat.zero_le _⟩ dX1_swap_2 rfl (fun r1 ι2 H locs hF hP => ?_)
  refine lv_if_eq (tgt := 21) X.1 X.2.1 dX1_swap_5 (by decide) (fun c36 => ?_) (fun c36 => ?_)
  · have hF := hF.1 c36
    refine ph_aload_n (n := 0) X hl dX1_swap_21 rfl rfl ?_
    refine lv_iconst (v := 1) X.1 X.2.1 dX1_swap_22 (by decide) ?_
    refine cg_callVi 1 [iX 1] X hP hm4 (met_X1_refuses l D dA ad g _ _ hF) (cwV 1 X.2.2.2.2.1 (lw_V q888 q890 qs7 q98 q891) rfl rfl rfl (by decide +kernel) ⟨Nat.le_of_ble_eq_true rfl, Nat.le_of_ble_eq_true rfl⟩) rfl hl (k8 := 0) (cs0 (k := 0)) (by decide) ⟨Nat.zero_le _, Nat.zero_le _⟩ dX1_swap_23 rfl (fun r5 ι6 H locs hF hP => ?_)
    refine lv_pop X.1 X.2.1 dX1_swap_26 rfl ?_
    refine lv_iconst (v := 0) X.1 X.2.1 dX1_swap_27 (by decide) ?_
    exact hg_zret X hP hag (isB_nar isB_0) hF (Nat.zero_le _) (Nat.zero_le _) dX1_swap_28
  · have hF := hF.2 c36
    refine ph_aload_n (n := 0) X hl dX1_swap_8 rfl rfl ?_
    refine ph_iload_n (n := 2) X hl dX1_swap_9 rfl rfl ?_
    refine cg_callVi 1 [iX a2] X hP hm4 (met_X1_isPlace l D dA ad g _ _ hF) (cwV 1 X.2.2.2.2.1 (lw_V q879 q881 qs5 q98 q882) rfl rfl rfl (by decide +kernel) ⟨Nat.le_of_ble_eq_true rfl, Nat.le_of_ble_eq_true rfl⟩) rfl hl (k8 := 0) (cs0 (k := 0)) (by decide) ⟨Nat.zero_le _, Nat.zero_le _⟩ dX1_swap_10 rfl (fun r8 ι9 H locs hF hP => ?_)
    refine lv_if_eq (tgt := 21) X.1 X.2.1 dX1_swap_13 (by decide) (fun c35 => ?_) (fun c35 => ?_)
    · have hF := hF.1 c35
      refine ph_aload_n (n := 0) X hl dX1_swap_21 rfl rfl ?_
      refine lv_iconst (v := 1) X.1 X.2.1 dX1_swap_22 (by decide) ?_
      refine cg_callVi 1 [iX 1] X hP hm4 (met_X1_refuses l D dA ad g _ _ hF) (cwV 1 X.2.2.2.2.1 (lw_V q888 q890 qs7 q98 q891) rfl rfl rfl (by decide +kernel) ⟨Nat.le_of_ble_eq_true rfl, Nat.le_of_ble_eq_true rfl⟩) rfl hl (k8 := 0) (cs0 (k := 0)) (by decide) ⟨Nat.zero_le _, Nat.zero_le _⟩ dX1_swap_23 rfl (fun r11 ι12 H locs hF hP => ?_)
      refine lv_pop X.1 X.2.1 dX1_swap_26 rfl ?_
      refine lv_iconst (v := 0) X.1 X.2.1 dX1_swap_27 (by decide) ?_
      exact hg_zret X hP hag (isB_nar isB_0) hF (Nat.zero_le _) (Nat.zero_le _) dX1_swap_28
    · have hF := hF.2 c35
      refine ph_iload_n (n := 1) X hl dX1_swap_16 rfl rfl ?_
      refine ph_iload_n (n := 2) X hl dX1_swap_17 rfl rfl ?_
      refine lv_icmp_ne (tgt := 29) X.1 X.2.1 dX1_swap_18 (by decide) (fun c34 => ?_) (fun c34 => ?_)
      · have hF := hF.1 c34
        refine ph_aload_n (n := 0) X hl dX1_swap_29 rfl rfl ?_
        have hv14 := gR_lt hP a0 1
        refine cg_getr 1 1 X in_X1 hP hm4 q800 dX1_swap_30 ?_
        obtain ⟨hx15, hF⟩ := hF
        obtain ⟨b16, d17, hF⟩ := hF
        obtain ⟨hd18, hF⟩ := hF
        obtain ⟨hm30, hF⟩ := hF
        refine hg_callVv 4 [] [] X hP hm30 (met_X5_keeps l D dA ad _ _ _ _ _ hF) (cwV 0 X.2.2.2.2.1 (lw_V q892 q893 q894 q122 q895) rfl rfl rfl (by decide +kernel) ⟨Nat.le_of_ble_eq_true rfl, Nat.le_of_ble_eq_true rfl⟩) rfl hag hl (ltlp hx15 (ltli (ltli ltln))) ltsn (k8 := 0) (cs0 (k := 0)) (by decide) hd18 dX1_swap_33 rfl (fun ad g19 ι20 H locs hF X hP hag he21 hl => ?_)
        show WHi p l e ({ frames := 8, cells := BC, slots := BS, locals := 211 } : Room) s m args below meth c D dA ad0 g0 A Q BC BS H locs (0 + b16) (0 + d17) (F0 m 36 ls [])
        refine ph_aload_n (n := 0) X hl dX1_swap_36 rfl rfl ?_
        obtain ⟨hm24, hF⟩ := hF
        have hv25 := gR_lt hP a0 3
        refine cg_getr 1 3 X in_X1 hP hm24 q802 dX1_swap_37 ?_
        refine ph_iload_n (n := 1) X hl dX1_swap_40 rfl rfl ?_
        refine ph_iload_n (n := 2) X hl dX1_swap_41 rfl rfl ?_
        obtain ⟨hm29, hF⟩ := hF
        refine cg_callVv 5 [iX a1, iX a2] X hP hm29 (met_X6_swap l D dA ad g19 _ _ hF) (cwV 2 X.2.2.2.2.1 (lw_V q911 q912 q913 q123 q914) rfl rfl rfl (by decide +kernel) ⟨Nat.le_of_ble_eq_true rfl, Nat.le_of_ble_eq_true rfl⟩) rfl hl (k8 := 0) (cs0 (k := 0)) (by decide) hd18 dX1_swap_42 rfl (fun ι27 H locs hF hP => ?_)
        refine lv_iconst (v := 1) X.1 X.2.1 dX1_swap_45 (by decide) ?_
        exact hg_zret X hP hag (isB_nar isB_1) hF hd18.1 hd18.2 dX1_swap_46
      · have hF := hF.2 c34
        refine ph_aload_n (n := 0) X hl dX1_swap_21 rfl rfl ?_
        refine lv_iconst (v := 1) X.1 X.2.1 dX1_swap_22 (by decide) ?_
        refine cg_callVi 1 [iX 1] X hP hm4 (met_X1_refuses l D dA ad g _ _ hF) (cwV 1 X.2.2.2.2.1 (lw_V q888 q890 qs7 q98 q891) rfl rfl rfl (by decide +kernel) ⟨Nat.le_of_ble_eq_true rfl, Nat.le_of_ble_eq_true rfl⟩) rfl hl (k8 := 0) (cs0 (k := 0)) (by decide) ⟨Nat.zero_le _, Nat.zero_le _⟩ dX1_swap_23 rfl (fun r31 ι32 H locs hF hP => ?_)
        refine lv_pop X.1 X.2.1 dX1_swap_26 rfl ?_
        refine lv_iconst (v := 0) X.1 X.2.1 dX1_swap_27 (by decide) ?_
        exact hg_zret X hP hag (isB_nar isB_0) hF (Nat.zero_le _) (Nat.zero_le _) dX1_swap_28
set_option maxHeartbeats 2000000 in
theorem met_X1_swap (l : Launch) (D : va_G) (dA : Nat → ClassId) (ad : Nat → Nat) (BC BS : Nat) (g : GT) (ι : S) (sz : Nat) {a0 : Nat} {a1 : Int32} {a2 : Int32} {Q : Int32 → GT → S → Prop} (hF : P_X1_swap BC BS a0 a1 a2 g ι Q) : CHi l yX1_swap cX1_swap 3 .boolean ({ frames := 8, cells := BC, slots := BS, locals := 211 } : Room) D dA ad g ι sz [pX a0, iX a1, iX a2] Q BC BS := by
  refine ph_enter [pX a0, iX a1, iX a2] (Qc := fun A => HPi D dA ad g A Q) (by decide +kernel) (Nat.le_of_ble_eq_true rfl) ?_
  intro p e s m args below meth c A ls X hP hl hnm
  have hnm : meth.name = "swap" := hnm
  exact we_X1_swap hnm _ _ _ _ _ _ _ _ _ hF X hP HA.rf hl
def P_X1_side (BC BS : Nat) (a0 : Nat) (a1 : Int32) (g : GT) (ι : S) (Q : Int32 → GT → S → Prop) : Prop := (P_X1_within g a1 0 1 ι (fun r1 ι2 => ((¬ r1 = 0 → (gK g a0 = 2 ∧ (a0 < 200 + gN g ∧ (∃ b7 d8, ((0 + b7 ≤ BC ∧ 0 + d8 ≤ BS) ∧ (gK g (gR g a0 1) = 5 ∧ (P_X5_keeps b7 d8 (gR g a0 1) g ι2 (fun g10 ι11 => (gK g10 a0 = 2 ∧ (gK g10 (gR g10 a0 3) = 6 ∧ (∀ ι19, ι19 = up2 ι11 (gR g10 a0 3) 3 a1 → (Q (ι11 (gR g10 a0 3) 3) g10 ι19)))))))))))) ∧ (r1 = 0 → (gK g a0 = 2 ∧ (P_X1_refuses g a0 1 ι2 (fun r21 ι22 => (Q r21 g ι22))))))))
set_option maxHeartbeats 2000000 in
theorem we_X1_side (hnm : meth.name = "side") {BC BS : Nat} {Q : Int32 → GT → S → Prop} : ∀ (a0 : Nat) (a1 : Int32) (g : GT) (ι : S) (ad : Nat → Nat) (H : Heap) (locs : List Loc) (ls : Array Slot), P_X1_side BC BS a0 a1 g ι Q → CX p s m args c meth cX1_side 3 (some .int) RX1 D dA ad A → PW D dA A s.heap ad (HS g ι) H locs → HA ad0 g0 ad g → LH ad ls 3 [(0, pX a0), (1, iX a1)] → WHi p l e ({ frames := 8, cells := BC, slots := BS, locals := 211 } : Room) s m args below meth c D dA ad0 g0 A Q BC BS H locs (0) (0) (F0 m 0 ls []) := by
  intro a0 a1 g ι ad H locs ls hF X hP hag hl
  unfold P_X1_side at hF
  refine ph_iload_n (n := 1) X hl dX1_side_0 rfl rfl ?_
  refine lv_iconst (v := 0) X.1 X.2.1 dX1_side_1 (by decide) ?_
  refine lv_iconst (v := 1) X.1 X.2.1 dX1_side_2 (by decide) ?_
  refine cg_callSi [iX a1, iX 0, iX 1] X hP (met_X1_within l D dA ad g _ _ hF) (va_cwS 3 X.2.2.2.2.1 (lw_S q919 q920 q98 q921) rfl rfl rfl (by decide +kernel) ⟨Nat.le_of_ble_eq_true rfl, Nat.le_of_ble_eq_true rfl⟩) rfl hl (k8 := 0) (cs0 (k := 0)) (by decide) ⟨Nat.zero_le _, Nat.zero_le _⟩ dX1_side_3 rfl (fun r1 ι2 H locs hF hP => ?_)
  refine lv_if_ne (tgt := 15) X.1 X.2.1 dX1_side_6 (by decide) (fun c25 => ?_) (fun c25 => ?_)
  · have hF := hF.1 c25
    refine ph_aload_n (n := 0) X hl dX1_side_15 rfl rfl ?_
    obtain ⟨hm4, hF⟩ := hF
    have hv5 := gR_lt hP a0 1
    refine cg_getr 1 1 X in_X1 hP hm4 q800 dX1_side_16 ?_
    obtain ⟨hx6, hF⟩ := hF
    obtain ⟨b7, d8, hF⟩ := hF
    obtain ⟨hd9, hF⟩ := hF
    obtain ⟨hm20, hF⟩ := hF
    refine hg_callVv 4 [] [] X hP hm20 (met_X5_keeps l D dA ad _ _ _ _ _ hF) (cwV 0 X.2.2.2.2.1 (lw_V q892 q893 q894 q122 q895) rfl rfl rfl (by decide +kernel) ⟨Nat.le_of_ble_eq_true rfl, Nat.le_of_ble_eq_true rfl⟩) rfl hag hl (ltlp hx6 (ltli ltln)) ltsn (k8 := 0) (cs0 (k := 0)) (by decide) hd9 dX1_side_19 rfl (fun ad g10 ι11 H locs hF X hP hag he12 hl => ?_)
    show WHi p l e ({ frames := 8, cells := BC, slots := BS, locals := 211 } : Room) s m args below meth c D dA ad0 g0 A Q BC BS H locs (0 + b7) (0 + d8) (F0 m 22 ls [])
    refine ph_aload_n (n := 0) X hl dX1_side_22 rfl rfl ?_
    obtain ⟨hm15, hF⟩ := hF
    have hv16 := gR_lt hP a0 3
    refine cg_getr 1 3 X in_X1 hP hm15 q802 dX1_side_23 ?_
    obtain ⟨hm17, hF⟩ := hF
    refine cg_getiN 5 3 X in_X6 hP hm17 q590 dX1_side_26 ?_
    refine ph_istore_n X hl dX1_side_29 rfl (by decide) rfl (fun ls hl => ?_)
    refine ph_aload_n (n := 1) X hl dX1_side_30 rfl rfl ?_
    have hv18 := gR_lt hP a0 3
    refine cg_getr 1 3 X in_X1 hP hm15 q802 dX1_side_31 ?_
    refine ph_iload_n (n := 2) X hl dX1_side_34 rfl rfl ?_
    refine hg_putiN 5 3 X in_X6 tyX6 tyX6_ok nmX6 hP hm17 q590 dX1_side_35 rfl rfl hF (fun H locs ι19 hP hF => ?_)
    refine ph_iload_n (n := 0) X hl dX1_side_38 rfl rfl ?_
    exact hg_iret X hP hag hF hd9.1 hd9.2 dX1_side_39
  · have hF := hF.2 c25
    refine ph_aload_n (n := 0) X hl dX1_side_9 rfl rfl ?_
    refine lv_iconst (v := 1) X.1 X.2.1 dX1_side_10 (by decide) ?_
    obtain ⟨hm24, hF⟩ := hF
    refine cg_callVi 1 [iX 1] X hP hm24 (met_X1_refuses l D dA ad g _ _ hF) (cwV 1 X.2.2.2.2.1 (lw_V q888 q890 qs7 q98 q891) rfl rfl rfl (by decide +kernel) ⟨Nat.le_of_ble_eq_true rfl, Nat.le_of_ble_eq_true rfl⟩) rfl hl (k8 := 0) (cs0 (k := 0)) (by decide) ⟨Nat.zero_le _, Nat.zero_le _⟩ dX1_side_11 rfl (fun r21 ι22 H locs hF hP => ?_)
    exact hg_iret X hP hag hF (Nat.zero_le _) (Nat.zero_le _) dX1_side_14
set_option maxHeartbeats 2000000 in
theorem met_X1_side (l : Launch) (D : va_G) (dA : Nat → ClassId) (ad : Nat → Nat) (BC BS : Nat) (g : GT) (ι : S) (sz : Nat) {a0 : Nat} {a1 : Int32} {Q : Int32 → GT → S → Prop} (hF : P_X1_side BC BS a0 a1 g ι Q) : CHi l yX1_side cX1_side 3 .int ({ frames := 8, cells := BC, slots := BS, locals := 211 } : Room) D dA ad g ι sz [pX a0, iX a1] Q BC BS := by
  refine ph_enter [pX a0, iX a1] (Qc := fun A => HPi D dA ad g A Q) (by decide +kernel) (Nat.le_of_ble_eq_true rfl) ?_
  intro p e s m args below meth c A ls X hP hl hnm
  have hnm : meth.name = "side" := hnm
  exact we_X1_side hnm _ _ _ _ _ _ _ _ hF X hP HA.rf hl
def P_X1_bolster_30 (BC BS : Nat) (Q : Int32 → GT → S → Prop) (y0 : Int32) (x0 : Nat) (x1 : Int32) (x2 : Int32) (g : GT) (ι : S) (uc us : Nat) : Prop := ((¬ y0 = x2 → (gK g x0 = 2 ∧ (x0 < 200 + gN g ∧ (∃ b4 d5, ((uc + b4 ≤ BC ∧ us + d5 ≤ BS) ∧ (gK g (gR g x0 1) = 5 ∧ (P_X5_keeps b4 d5 (gR g x0 1) g ι (fun g7 ι8 => (gK g7 x0 = 2 ∧ (gK g7 (gR g7 x0 3) = 6 ∧ (∀ ι15, ι15 = up2 ι8 (gR g7 x0 3) 6 ((ι8 (gR g7 x0 3) 6) ^^^ (1 <<< ((x1 : Int32) &&& 31))) → (Q 1 g7 ι15)))))))))))) ∧ (y0 = x2 → ((uc ≤ BC ∧ us ≤ BS) ∧ (gK g x0 = 2 ∧ (P_X1_refuses g x0 1 ι (fun r18 ι19 => (Q 0 g ι19)))))))
def P_X1_bolster (BC BS : Nat) (a0 : Nat) (a1 : Int32) (a2 : Int32) (g : GT) (ι : S) (Q : Int32 → GT → S → Prop) : Prop := (P_X1_within g a1 1 6 ι (fun r23 ι24 => ((r23 = 0 → (gK g a0 = 2 ∧ (P_X1_refuses g a0 1 ι24 (fun r26 ι27 => (Q 0 g ι27))))) ∧ (¬ r23 = 0 → (gK g a0 = 2 ∧ (gK g (gR g a0 3) = 6 ∧ ((¬ (((ι24 (gR g a0 3) 6) >>> ((a1 : Int32) &&& 31)) &&& 1) = 1 → (P_X1_bolster_30 BC BS Q 0 a0 a1 a2 g ι24 (0) (0))) ∧ ((((ι24 (gR g a0 3) 6) >>> ((a1 : Int32) &&& 31)) &&& 1) = 1 → (P_X1_bolster_30 BC BS Q 1 a0 a1 a2 g ι24 (0) (0))))))))))
set_option maxHeartbeats 2000000 in
theorem w_X1_bolster_30 (hnm : meth.name = "bolster") {BC BS : Nat} {Q : Int32 → GT → S → Prop} : ∀ (y0 : Int32) (x0 : Nat) (x1 : Int32) (x2 : Int32) (g : GT) (ι : S) (uc us : Nat) (ad : Nat → Nat) (H : Heap) (locs : List Loc) (ls : Array Slot), P_X1_bolster_30 BC BS Q y0 x0 x1 x2 g ι uc us → CX p s m args c meth cX1_bolster 3 (some .boolean) RX1 D dA ad A → PW D dA A s.heap ad (HS g ι) H locs → HA ad0 g0 ad g → LH ad ls 3 [(0, pX x0), (1, iX x1), (2, iX x2)] → WHi p l e ({ frames := 8, cells := BC, slots := BS, locals := 211 } : Room) s m args below meth c D dA ad0 g0 A Q BC BS H locs (uc) (us) (F0 m 30 ls [.int y0]) := by
  intro y0 x0 x1 x2 g ι uc us ad H locs ls hF X hP hag hl
  unfold P_X1_bolster_30 at hF
  refine ph_iload_n (n := 2) X hl dX1_bolster_30 rfl rfl ?_
  refine lv_icmp_ne (tgt := 42) X.1 X.2.1 dX1_bolster_31 (by decide) (fun c22 => ?_) (fun c22 => ?_)
  · have hF := hF.1 c22
    refine ph_aload_n (n := 0) X hl dX1_bolster_42 rfl rfl ?_
    obtain ⟨hm1, hF⟩ := hF
    have hv2 := gR_lt hP x0 1
    refine cg_getr 1 1 X in_X1 hP hm1 q800 dX1_bolster_43 ?_
    obtain ⟨hx3, hF⟩ := hF
    obtain ⟨b4, d5, hF⟩ := hF
    obtain ⟨hd6, hF⟩ := hF
    obtain ⟨hm16, hF⟩ := hF
    have hl : LH ad ls 3 [(0, pX x0), (1, iX x1)] := lh_sub hl [0, 1] rfl
    refine hg_callVv 4 [] [] X hP hm16 (met_X5_keeps l D dA ad _ _ _ _ _ hF) (cwV 0 X.2.2.2.2.1 (lw_V q892 q893 q894 q122 q895) rfl rfl rfl (by decide +kernel) ⟨Nat.le_of_ble_eq_true rfl, Nat.le_of_ble_eq_true rfl⟩) rfl hag hl (ltlp hx3 (ltli ltln)) ltsn (k8 := 0) (cs0 (k := 0)) (by decide) hd6 dX1_bolster_46 rfl (fun ad g7 ι8 H locs hF X hP hag he9 hl => ?_)
    show WHi p l e ({ frames := 8, cells := BC, slots := BS, locals := 211 } : Room) s m args below meth c D dA ad0 g0 A Q BC BS H locs (uc + b4) (us + d5) (F0 m 49 ls [])
    refine ph_aload_n (n := 0) X hl dX1_bolster_49 rfl rfl ?_
    obtain ⟨hm12, hF⟩ := hF
    have hv13 := gR_lt hP x0 3
    refine cg_getr 1 3 X in_X1 hP hm12 q802 dX1_bolster_50 ?_
    refine ph_dup_r X dX1_bolster_53 ?_
    obtain ⟨hm14, hF⟩ := hF
    refine cg_getiN 5 6 X in_X6 hP hm14 q598 dX1_bolster_54 ?_
    refine lv_iconst (v := 1) X.1 X.2.1 dX1_bolster_57 (by decide) ?_
    refine ph_iload_n (n := 1) X hl dX1_bolster_58 rfl rfl ?_
    refine lv_ishl X.1 X.2.1 dX1_bolster_59 ?_
    refine lv_ixor X.1 X.2.1 dX1_bolster_60 ?_
    refine hg_putiN 5 6 X in_X6 tyX6 tyX6_ok nmX6 hP hm14 q598 dX1_bolster_61 rfl rfl hF (fun H locs ι15 hP hF => ?_)
    refine lv_iconst (v := 1) X.1 X.2.1 dX1_bolster_64 (by decide) ?_
    exact hg_zret X hP hag (isB_nar isB_1) hF hd6.1 hd6.2 dX1_bolster_65
  · have hF := hF.2 c22
    refine ph_aload_n (n := 0) X hl dX1_bolster_34 rfl rfl ?_
    refine lv_iconst (v := 1) X.1 X.2.1 dX1_bolster_35 (by decide) ?_
    obtain ⟨hd17, hF⟩ := hF
    obtain ⟨hm21, hF⟩ := hF
    refine cg_callVi 1 [iX 1] X hP hm21 (met_X1_refuses l D dA ad g _ _ hF) (cwV 1 X.2.2.2.2.1 (lw_V q888 q890 qs7 q98 q891) rfl rfl rfl (by decide +kernel) ⟨Nat.le_of_ble_eq_true rfl, Nat.le_of_ble_eq_true rfl⟩) rfl hl (k8 := 0) (cs0 (k := 0)) (by decide) hd17 dX1_bolster_36 rfl (fun r18 ι19 H locs hF hP => ?_)
    refine lv_pop X.1 X.2.1 dX1_bolster_39 rfl ?_
    refine lv_iconst (v := 0) X.1 X.2.1 dX1_bolster_40 (by decide) ?_
    exact hg_zret X hP hag (isB_nar isB_0) hF hd17.1 hd17.2 dX1_bolster_41
set_option maxHeartbeats 2000000 in
theorem we_X1_bolster (hnm : meth.name = "bolster") {BC BS : Nat} {Q : Int32 → GT → S → Prop} : ∀ (a0 : Nat) (a1 : Int32) (a2 : Int32) (g : GT) (ι : S) (ad : Nat → Nat) (H : Heap) (locs : List Loc) (ls : Array Slot), P_X1_bolster BC BS a0 a1 a2 g ι Q → CX p s m args c meth cX1_bolster 3 (some .boolean) RX1 D dA ad A → PW D dA A s.heap ad (HS g ι) H locs → HA ad0 g0 ad g → LH ad ls 3 [(0, pX a0), (1, iX a1), (2, iX a2)] → WHi p l e ({ frames := 8, cells := BC, slots := BS, locals := 211 } : Room) s m args below meth c D dA ad0 g0 A Q BC BS H locs (0) (0) (F0 m 0 ls []) := by
  intro a0 a1 a2 g ι ad H locs ls hF X hP hag hl
  unfold P_X1_bolster at hF
  refine ph_iload_n (n := 1) X hl dX1_bolster_0 rfl rfl ?_
  refine lv_iconst (v := 1) X.1 X.2.1 dX1_bolster_1 (by decide) ?_
  refine lv_bipush (v := 6) X.1 X.2.1 dX1_bolster_2 (by decide) ?_
  refine cg_callSi [iX a1, iX 1, iX 6] X hP (met_X1_within l D dA ad g _ _ hF) (va_cwS 3 X.2.2.2.2.1 (lw_S q919 q920 q98 q921) rfl rfl rfl (by decide +kernel) ⟨Nat.le_of_ble_eq_true rfl, Nat.le_of_ble_eq_true rfl⟩) rfl hl (k8 := 0) (cs0 (k := 0)) (by decide) ⟨Nat.zero_le _, Nat.zero_le _⟩ dX1_bolster_4 rfl (fun r23 ι24 H locs hF hP => ?_)
  refine lv_if_eq (tgt := 34) X.1 X.2.1 dX1_bolster_7 (by decide) (fun c34 => ?_) (fun c34 => ?_)
  · have hF := hF.1 c34
    refine ph_aload_n (n := 0) X hl dX1_bolster_34 rfl rfl ?_
    refine lv_iconst (v := 1) X.1 X.2.1 dX1_bolster_35 (by decide) ?_
    obtain ⟨hm29, hF⟩ := hF
    refine cg_callVi 1 [iX 1] X hP hm29 (met_X1_refuses l D dA ad g _ _ hF) (cwV 1 X.2.2.2.2.1 (lw_V q888 q890 qs7 q98 q891) rfl rfl rfl (by decide +kernel) ⟨Nat.le_of_ble_eq_true rfl, Nat.le_of_ble_eq_true rfl⟩) rfl hl (k8 := 0) (cs0 (k := 0)) (by decide) ⟨Nat.zero_le _, Nat.zero_le _⟩ dX1_bolster_36 rfl (fun r26 ι27 H locs hF hP => ?_)
    refine lv_pop X.1 X.2.1 dX1_bolster_39 rfl ?_
    refine lv_iconst (v := 0) X.1 X.2.1 dX1_bolster_40 (by decide) ?_
    exact hg_zret X hP hag (isB_nar isB_0) hF (Nat.zero_le _) (Nat.zero_le _) dX1_bolster_41
  · have hF := hF.2 c34
    refine ph_aload_n (n := 0) X hl dX1_bolster_10 rfl rfl ?_
    obtain ⟨hm30, hF⟩ := hF
    have hv31 := gR_lt hP a0 3
    refine cg_getr 1 3 X in_X1 hP hm30 q802 dX1_bolster_11 ?_
    obtain ⟨hm32, hF⟩ := hF
    refine cg_getiN 5 6 X in_X6 hP hm32 q598 dX1_bolster_14 ?_
    refine ph_iload_n (n := 1) X hl dX1_bolster_17 rfl rfl ?_
    refine lv_ishr X.1 X.2.1 dX1_bolster_18 ?_
    refine lv_iconst (v := 1) X.1 X.2.1 dX1_bolster_19 (by decide) ?_
    refine lv_iand X.1 X.2.1 dX1_bolster_20 ?_
    refine lv_iconst (v := 1) X.1 X.2.1 dX1_bolster_21 (by decide) ?_
    refine lv_icmp_ne (tgt := 29) X.1 X.2.1 dX1_bolster_22 (by decide) (fun c33 => ?_) (fun c33 => ?_)
    · have hF := hF.1 c33
      refine lv_iconst (v := 0) X.1 X.2.1 dX1_bolster_29 (by decide) ?_
      exact w_X1_bolster_30 hnm _ _ _ _ _ _ _ _ _ _ _ _ hF X hP hag hl
    · have hF := hF.2 c33
      refine lv_iconst (v := 1) X.1 X.2.1 dX1_bolster_25 (by decide) ?_
      refine lv_goto (tgt := 30) X.1 X.2.1 dX1_bolster_26 (by decide) ?_
      exact w_X1_bolster_30 hnm _ _ _ _ _ _ _ _ _ _ _ _ hF X hP hag hl
set_option maxHeartbeats 2000000 in
theorem met_X1_bolster (l : Launch) (D : va_G) (dA : Nat → ClassId) (ad : Nat → Nat) (BC BS : Nat) (g : GT) (ι : S) (sz : Nat) {a0 : Nat} {a1 : Int32} {a2 : Int32} {Q : Int32 → GT → S → Prop} (hF : P_X1_bolster BC BS a0 a1 a2 g ι Q) : CHi l yX1_bolster cX1_bolster 3 .boolean ({ frames := 8, cells := BC, slots := BS, locals := 211 } : Room) D dA ad g ι sz [pX a0, iX a1, iX a2] Q BC BS := by
  refine ph_enter [pX a0, iX a1, iX a2] (Qc := fun A => HPi D dA ad g A Q) (by decide +kernel) (Nat.le_of_ble_eq_true rfl) ?_
  intro p e s m args below meth c A ls X hP hl hnm
  have hnm : meth.name = "bolster" := hnm
  exact we_X1_bolster hnm _ _ _ _ _ _ _ _ _ hF X hP HA.rf hl
def P_X1_word (BC BS : Nat) (Xq : Nat → Nat → GT → S → Prop) (a0 : Nat) (a1 : Int32) (a2 : Int32) (g : GT) (ι : S) (Q : Int32 → GT → S → Prop) : Prop := (gK g a0 = 2 ∧ ((1 ≤ BC ∧ 6 ≤ BS) ∧ (P_X1_sleeperAt g (fun k ι9 => k ≠ 3 ∧ Xq k 0 g ι9) a0 a1 ι (fun r1 ι2 => (P_X1_within g a2 0 240 ι2 (fun r6 ι7 => ((r6 = 0 → (P_X1_refuses g a0 1 ι7 (fun r9 ι10 => (Q r9 g ι10)))) ∧ (¬ r6 = 0 → (isSl (gK g r1) ∧ ((¬ (slTurned (gK g r1)) = 0 → (a0 < 200 + gN g ∧ (∃ b18 d19, ((1 + b18 ≤ BC ∧ 6 + d19 ≤ BS) ∧ (gK g (gR g a0 1) = 5 ∧ (P_X5_keeps b18 d19 (gR g a0 1) g ι7 (fun g21 ι22 => (gK g21 a0 = 2 ∧ (gK g21 (gR g21 a0 3) = 6 ∧ (∀ ι30, ι30 = up2 ι22 (gR g21 a0 3) 5 a2 → ((¬ a2 = 0 → (∀ ι32, ι32 = up2 ι30 (gR g21 a0 3) 4 a1 → (Q (ι22 (gR g21 a0 3) 5) g21 ι32))) ∧ (a2 = 0 → (∀ ι33, ι33 = up2 ι30 (gR g21 a0 3) 4 (-1) → (Q (ι22 (gR g21 a0 3) 5) g21 ι33)))))))))))))) ∧ ((slTurned (gK g r1)) = 0 → (P_X1_refuses g a0 1 ι7 (fun r36 ι37 => (Q r36 g ι37))))))))))))))
set_option maxHeartbeats 2000000 in
theorem we_X1_word (hlt : l.stackTraces = false) (hex : ∀ x ∈ c.exceptionTable.toList, False) {Xq : Nat → Nat → GT → S → Prop} {BC BS : Nat} {Q : Int32 → GT → S → Prop} : ∀ (a0 : Nat) (a1 : Int32) (a2 : Int32) (g : GT) (ι : S) (ad : Nat → Nat) (H : Heap) (locs : List Loc) (ls : Array Slot), P_X1_word BC BS Xq a0 a1 a2 g ι Q → CX p s m args c meth cX1_word 5 (some .int) RX1 D dA ad A → PW D dA A s.heap ad (HS g ι) H locs → HA ad0 g0 ad g → LH ad ls 5 [(0, pX a0), (1, iX a1), (2, iX a2)] → WYi p l e ({ frames := 8, cells := BC, slots := BS, locals := 211 } : Room) s m args below meth c D dA ad0 g0 A Q Xq BC BS H locs (0) (0) (F0 m 0 ls []) := by
  intro a0 a1 a2 g ι ad H locs ls hF X hP hag hl
  unfold P_X1_word at hF
  refine ph_aload_n (n := 0) X hl dX1_word_0 rfl rfl ?_
  refine ph_iload_n (n := 1) X hl dX1_word_1 rfl rfl ?_
  obtain ⟨hm4, hF⟩ := hF
  obtain ⟨hd5, hF⟩ := hF
  refine he_callVq 1 [iX a1] X hP hex hm4 (met_X1_sleeperAt l D dA ad g hlt _ _ hF) (cwV 1 X.2.2.2.2.1 (lw_V q1581 q1583 qs40 q98 q1584) rfl rfl rfl (by decide +kernel) ⟨Nat.le_of_ble_eq_true rfl, Nat.le_of_ble_eq_true rfl⟩) rfl hag hl (k8 := 0) (cs0 (k := 0)) (by decide) hd5 hd5.1 hd5.2 dX1_word_2 rfl (fun r1 ι2 H locs hF hv3 hP => ?_)
  show WYi p l e ({ frames := 8, cells := BC, slots := BS, locals := 211 } : Room) s m args below meth c D dA ad0 g0 A Q Xq BC BS H locs (1) (6) (F0 m 5 ls [rv ad r1])
  refine ph_astore_n X hl dX1_word_5 rfl (by decide) rfl (fun ls hl => ?_)
  refine ph_iload_n (n := 3) X hl dX1_word_6 rfl rfl ?_
  refine lv_iconst (v := 0) X.1 X.2.1 dX1_word_7 (by decide) ?_
  refine lv_sipush (v := 240) X.1 X.2.1 dX1_word_8 (by decide) ?_
  refine cg_callSi [iX a2, iX 0, iX 240] X hP (met_X1_within l D dA ad g _ _ hF) (va_cwS 3 X.2.2.2.2.1 (lw_S q919 q920 q98 q921) rfl rfl rfl (by decide +kernel) ⟨Nat.le_of_ble_eq_true rfl, Nat.le_of_ble_eq_true rfl⟩) rfl hl (k8 := 0) (cs0 (k := 0)) (by decide) hd5 dX1_word_11 rfl (fun r6 ι7 H locs hF hP => ?_)
  refine lv_if_eq (tgt := 24) X.1 X.2.1 dX1_word_14 (by decide) (fun c40 => ?_) (fun c40 => ?_)
  · have hF := hF.1 c40
    refine ph_aload_n (n := 1) X hl dX1_word_24 rfl rfl ?_
    refine lv_iconst (v := 1) X.1 X.2.1 dX1_word_25 (by decide) ?_
    refine cg_callVi 1 [iX 1] X hP hm4 (met_X1_refuses l D dA ad g _ _ hF) (cwV 1 X.2.2.2.2.1 (lw_V q888 q890 qs7 q98 q891) rfl rfl rfl (by decide +kernel) ⟨Nat.le_of_ble_eq_true rfl, Nat.le_of_ble_eq_true rfl⟩) rfl hl (k8 := 0) (cs0 (k := 0)) (by decide) hd5 dX1_word_26 rfl (fun r9 ι10 H locs hF hP => ?_)
    exact hy_iret X hP hag hF hd5.1 hd5.2 dX1_word_29
  · have hF := hF.2 c40
    refine ph_aload_n (n := 0) X hl dX1_word_17 rfl rfl ?_
    obtain ⟨hm15, hF⟩ := hF
    refine cg_v_isTurned X hP hl hm15 q1608 (k8 := 0) (cs0 (k := 0)) (by decide) ⟨Nat.le_of_ble_eq_true rfl, Nat.le_of_ble_eq_true rfl⟩ hd5 dX1_word_18 (fun H locs hP => ?_)
    refine lv_if_ne (tgt := 30) X.1 X.2.1 dX1_word_21 (by decide) (fun c39 => ?_) (fun c39 => ?_)
    · have hF := hF.1 c39
      refine ph_aload_n (n := 1) X hl dX1_word_30 rfl rfl ?_
      have hv16 := gR_lt hP a0 1
      refine cg_getr 1 1 X in_X1 hP hm4 q800 dX1_word_31 ?_
      obtain ⟨hx17, hF⟩ := hF
      obtain ⟨b18, d19, hF⟩ := hF
      obtain ⟨hd20, hF⟩ := hF
      obtain ⟨hm35, hF⟩ := hF
      have hl : LH ad ls 5 [(0, pX a0), (1, iX a1), (2, iX a2)] := lh_sub hl [1, 2, 3] rfl
      refine hg_callVv 4 [] [] X hP hm35 (met_X5_keeps l D dA ad _ _ _ _ _ hF) (cwV 0 X.2.2.2.2.1 (lw_V q892 q893 q894 q122 q895) rfl rfl rfl (by decide +kernel) ⟨Nat.le_of_ble_eq_true rfl, Nat.le_of_ble_eq_true rfl⟩) rfl hag hl (ltlp hx17 (ltli (ltli ltln))) ltsn (k8 := 0) (cs0 (k := 0)) (by decide) hd20 dX1_word_34 rfl (fun ad g21 ι22 H locs hF X hP hag he23 hl => ?_)
      show WYi p l e ({ frames := 8, cells := BC, slots := BS, locals := 211 } : Room) s m args below meth c D dA ad0 g0 A Q Xq BC BS H locs (1 + b18) (6 + d19) (F0 m 37 ls [])
      refine ph_aload_n (n := 0) X hl dX1_word_37 rfl rfl ?_
      obtain ⟨hm26, hF⟩ := hF
      have hv27 := gR_lt hP a0 3
      refine cg_getr 1 3 X in_X1 hP hm26 q802 dX1_word_38 ?_
      obtain ⟨hm28, hF⟩ := hF
      refine cg_getiN 5 5 X in_X6 hP hm28 q596 dX1_word_41 ?_
      refine ph_istore X hl dX1_word_44 (by decide) rfl (fun ls hl => ?_)
      refine ph_aload_n (n := 1) X hl dX1_word_46 rfl rfl ?_
      have hv29 := gR_lt hP a0 3
      refine cg_getr 1 3 X in_X1 hP hm26 q802 dX1_word_47 ?_
      refine ph_iload_n (n := 3) X hl dX1_word_50 rfl rfl ?_
      refine hg_putiN 5 5 X in_X6 tyX6 tyX6_ok nmX6 hP hm28 q596 dX1_word_51 rfl rfl hF (fun H locs ι30 hP hF => ?_)
      refine ph_aload_n (n := 1) X hl dX1_word_54 rfl rfl ?_
      have hv31 := gR_lt hP a0 3
      refine cg_getr 1 3 X in_X1 hP hm26 q802 dX1_word_55 ?_
      refine ph_iload_n (n := 3) X hl dX1_word_58 rfl rfl ?_
      refine lv_if_ne (tgt := 66) X.1 X.2.1 dX1_word_59 (by decide) (fun c34 => ?_) (fun c34 => ?_)
      · have hF := hF.1 c34
        refine ph_iload_n (n := 2) X hl dX1_word_66 rfl rfl ?_
        refine hg_putiN 5 4 X in_X6 tyX6 tyX6_ok nmX6 hP hm28 q593 dX1_word_67 rfl rfl hF (fun H locs ι32 hP hF => ?_)
        refine ph_iload (n := 0) X hl dX1_word_70 rfl ?_
        exact hy_iret X hP hag hF hd20.1 hd20.2 dX1_word_72
      · have hF := hF.2 c34
        refine lv_iconst (v := (-1)) X.1 X.2.1 dX1_word_62 (by decide) ?_
        refine lv_goto (tgt := 67) X.1 X.2.1 dX1_word_63 (by decide) ?_
        refine hg_putiN 5 4 X in_X6 tyX6 tyX6_ok nmX6 hP hm28 q593 dX1_word_67 rfl rfl hF (fun H locs ι33 hP hF => ?_)
        refine ph_iload (n := 0) X hl dX1_word_70 rfl ?_
        exact hy_iret X hP hag hF hd20.1 hd20.2 dX1_word_72
    · have hF := hF.2 c39
      refine ph_aload_n (n := 1) X hl dX1_word_24 rfl rfl ?_
      refine lv_iconst (v := 1) X.1 X.2.1 dX1_word_25 (by decide) ?_
      refine cg_callVi 1 [iX 1] X hP hm4 (met_X1_refuses l D dA ad g _ _ hF) (cwV 1 X.2.2.2.2.1 (lw_V q888 q890 qs7 q98 q891) rfl rfl rfl (by decide +kernel) ⟨Nat.le_of_ble_eq_true rfl, Nat.le_of_ble_eq_true rfl⟩) rfl hl (k8 := 0) (cs0 (k := 0)) (by decide) hd5 dX1_word_26 rfl (fun r36 ι37 H locs hF hP => ?_)
      exact hy_iret X hP hag hF hd5.1 hd5.2 dX1_word_29
set_option maxHeartbeats 2000000 in
theorem met_X1_word (l : Launch) (D : va_G) (dA : Nat → ClassId) (ad : Nat → Nat) (BC BS : Nat) (hlt : l.stackTraces = false) {Xq : Nat → Nat → GT → S → Prop} (g : GT) (ι : S) (sz : Nat) {a0 : Nat} {a1 : Int32} {a2 : Int32} {Q : Int32 → GT → S → Prop} (hF : P_X1_word BC BS Xq a0 a1 a2 g ι Q) : CYi l yX1_word cX1_word 5 .int ({ frames := 8, cells := BC, slots := BS, locals := 211 } : Room) D dA ad g ι sz [pX a0, iX a1, iX a2] Q Xq BC BS := by
  refine yg_enter [pX a0, iX a1, iX a2] (Qc := fun A => HPi D dA ad g A Q) (XC := fun A => XHC D dA ad g A Xq) (by decide +kernel) (Nat.le_of_ble_eq_true rfl) ?_
  intro p e s m args below meth c A ls X hP hl hex
  exact we_X1_word hlt hex _ _ _ _ _ _ _ _ _ hF X hP HA.rf hl
def P_X1_out (BC BS : Nat) (Xq : Nat → Nat → GT → S → Prop) (a0 : Nat) (a1 : Int32) (a2 : Int32) (g : GT) (ι : S) (Q : Int32 → GT → S → Prop) : Prop := (gK g a0 = 2 ∧ ((1 ≤ BC ∧ 6 ≤ BS) ∧ (P_X1_sleeperAt g (fun k ι9 => k ≠ 3 ∧ Xq k 0 g ι9) a0 a1 ι (fun r1 ι2 => (P_X1_within g a2 0 600 ι2 (fun r6 ι7 => ((r6 = 0 → (P_X1_refuses g a0 1 ι7 (fun r9 ι10 => (Q r9 g ι10)))) ∧ (¬ r6 = 0 → (isSl (gK g r1) ∧ ((¬ (slTurned (gK g r1)) = 0 → (a0 < 200 + gN g ∧ (∃ b18 d19, ((1 + b18 ≤ BC ∧ 6 + d19 ≤ BS) ∧ (gK g (gR g a0 1) = 5 ∧ (P_X5_keeps b18 d19 (gR g a0 1) g ι7 (fun g21 ι22 => (gK g21 a0 = 2 ∧ (gK g21 (gR g21 a0 3) = 6 ∧ (gK g21 (gR g21 (gR g21 a0 3) 1) = 100 ∧ (vp_in a1 (gL g21 (gR g21 (gR g21 a0 3) 1)) ∧ (vp_in a1 (gL g21 (gR g21 (gR g21 a0 3) 1)) ∧ (∀ ι34, ι34 = up2 ι22 (gR g21 (gR g21 a0 3) 1) a1.toNatClampNeg a2 → (Q (ι22 (gR g21 (gR g21 a0 3) 1) a1.toNatClampNeg) g21 ι34)))))))))))))) ∧ ((slTurned (gK g r1)) = 0 → (P_X1_refuses g a0 1 ι7 (fun r37 ι38 => (Q r37 g ι38))))))))))))))
set_option maxHeartbeats 2000000 in
theorem we_X1_out (hlt : l.stackTraces = false) (hex : ∀ x ∈ c.exceptionTable.toList, False) {Xq : Nat → Nat → GT → S → Prop} {BC BS : Nat} {Q : Int32 → GT → S → Prop} : ∀ (a0 : Nat) (a1 : Int32) (a2 : Int32) (g : GT) (ι : S) (ad : Nat → Nat) (H : Heap) (locs : List Loc) (ls : Array Slot), P_X1_out BC BS Xq a0 a1 a2 g ι Q → CX p s m args c meth cX1_out 5 (some .int) RX1 D dA ad A → PW D dA A s.heap ad (HS g ι) H locs → HA ad0 g0 ad g → LH ad ls 5 [(0, pX a0), (1, iX a1), (2, iX a2)] → WYi p l e ({ frames := 8, cells := BC, slots := BS, locals := 211 } : Room) s m args below meth c D dA ad0 g0 A Q Xq BC BS H locs (0) (0) (F0 m 0 ls []) := by
  intro a0 a1 a2 g ι ad H locs ls hF X hP hag hl
  unfold P_X1_out at hF
  refine ph_aload_n (n := 0) X hl dX1_out_0 rfl rfl ?_
  refine ph_iload_n (n := 1) X hl dX1_out_1 rfl rfl ?_
  obtain ⟨hm4, hF⟩ := hF
  obtain ⟨hd5, hF⟩ := hF
  refine he_callVq 1 [iX a1] X hP hex hm4 (met_X1_sleeperAt l D dA ad g hlt _ _ hF) (cwV 1 X.2.2.2.2.1 (lw_V q1581 q1583 qs40 q98 q1584) rfl rfl rfl (by decide +kernel) ⟨Nat.le_of_ble_eq_true rfl, Nat.le_of_ble_eq_true rfl⟩) rfl hag hl (k8 := 0) (cs0 (k := 0)) (by decide) hd5 hd5.1 hd5.2 dX1_out_2 rfl (fun r1 ι2 H locs hF hv3 hP => ?_)
  show WYi p l e ({ frames := 8, cells := BC, slots := BS, locals := 211 } : Room) s m args below meth c D dA ad0 g0 A Q Xq BC BS H locs (1) (6) (F0 m 5 ls [rv ad r1])
  refine ph_astore_n X hl dX1_out_5 rfl (by decide) rfl (fun ls hl => ?_)
  refine ph_iload_n (n := 3) X hl dX1_out_6 rfl rfl ?_
  refine lv_iconst (v := 0) X.1 X.2.1 dX1_out_7 (by decide) ?_
  refine lv_sipush (v := 600) X.1 X.2.1 dX1_out_8 (by decide) ?_
  refine cg_callSi [iX a2, iX 0, iX 600] X hP (met_X1_within l D dA ad g _ _ hF) (va_cwS 3 X.2.2.2.2.1 (lw_S q919 q920 q98 q921) rfl rfl rfl (by decide +kernel) ⟨Nat.le_of_ble_eq_true rfl, Nat.le_of_ble_eq_true rfl⟩) rfl hl (k8 := 0) (cs0 (k := 0)) (by decide) hd5 dX1_out_11 rfl (fun r6 ι7 H locs hF hP => ?_)
  refine lv_if_eq (tgt := 24) X.1 X.2.1 dX1_out_14 (by decide) (fun c41 => ?_) (fun c41 => ?_)
  · have hF := hF.1 c41
    refine ph_aload_n (n := 1) X hl dX1_out_24 rfl rfl ?_
    refine lv_iconst (v := 1) X.1 X.2.1 dX1_out_25 (by decide) ?_
    refine cg_callVi 1 [iX 1] X hP hm4 (met_X1_refuses l D dA ad g _ _ hF) (cwV 1 X.2.2.2.2.1 (lw_V q888 q890 qs7 q98 q891) rfl rfl rfl (by decide +kernel) ⟨Nat.le_of_ble_eq_true rfl, Nat.le_of_ble_eq_true rfl⟩) rfl hl (k8 := 0) (cs0 (k := 0)) (by decide) hd5 dX1_out_26 rfl (fun r9 ι10 H locs hF hP => ?_)
    exact hy_iret X hP hag hF hd5.1 hd5.2 dX1_out_29
  · have hF := hF.2 c41
    refine ph_aload_n (n := 0) X hl dX1_out_17 rfl rfl ?_
    obtain ⟨hm15, hF⟩ := hF
    refine cg_v_isTurned X hP hl hm15 q1608 (k8 := 0) (cs0 (k := 0)) (by decide) ⟨Nat.le_of_ble_eq_true rfl, Nat.le_of_ble_eq_true rfl⟩ hd5 dX1_out_18 (fun H locs hP => ?_)
    refine lv_if_ne (tgt := 30) X.1 X.2.1 dX1_out_21 (by decide) (fun c40 => ?_) (fun c40 => ?_)
    · have hF := hF.1 c40
      refine ph_aload_n (n := 1) X hl dX1_out_30 rfl rfl ?_
      have hv16 := gR_lt hP a0 1
      refine cg_getr 1 1 X in_X1 hP hm4 q800 dX1_out_31 ?_
      obtain ⟨hx17, hF⟩ := hF
      obtain ⟨b18, d19, hF⟩ := hF
      obtain ⟨hd20, hF⟩ := hF
      obtain ⟨hm36, hF⟩ := hF
      have hl : LH ad ls 5 [(0, pX a0), (1, iX a1), (2, iX a2)] := lh_sub hl [1, 2, 3] rfl
      refine hg_callVv 4 [] [] X hP hm36 (met_X5_keeps l D dA ad _ _ _ _ _ hF) (cwV 0 X.2.2.2.2.1 (lw_V q892 q893 q894 q122 q895) rfl rfl rfl (by decide +kernel) ⟨Nat.le_of_ble_eq_true rfl, Nat.le_of_ble_eq_true rfl⟩) rfl hag hl (ltlp hx17 (ltli (ltli ltln))) ltsn (k8 := 0) (cs0 (k := 0)) (by decide) hd20 dX1_out_34 rfl (fun ad g21 ι22 H locs hF X hP hag he23 hl => ?_)
      show WYi p l e ({ frames := 8, cells := BC, slots := BS, locals := 211 } : Room) s m args below meth c D dA ad0 g0 A Q Xq BC BS H locs (1 + b18) (6 + d19) (F0 m 37 ls [])
      refine ph_aload_n (n := 0) X hl dX1_out_37 rfl rfl ?_
      obtain ⟨hm26, hF⟩ := hF
      have hv27 := gR_lt hP a0 3
      refine cg_getr 1 3 X in_X1 hP hm26 q802 dX1_out_38 ?_
      obtain ⟨hm28, hF⟩ := hF
      have hv29 := gR_lt hP (gR g21 a0 3) 1
      refine cg_getrN 5 1 X in_X6 hP hm28 q585 dX1_out_41 ?_
      refine ph_iload_n (n := 1) X hl dX1_out_44 rfl rfl ?_
      obtain ⟨hm30, hF⟩ := hF
      obtain ⟨hr31, hF⟩ := hF
      refine cg_iald X hP hm30 hr31 (k := a1.toNatClampNeg) rfl dX1_out_45 ?_
      refine ph_istore X hl dX1_out_46 (by decide) rfl (fun ls hl => ?_)
      refine ph_aload_n (n := 1) X hl dX1_out_48 rfl rfl ?_
      have hv32 := gR_lt hP a0 3
      refine cg_getr 1 3 X in_X1 hP hm26 q802 dX1_out_49 ?_
      have hv33 := gR_lt hP (gR g21 a0 3) 1
      refine cg_getrN 5 1 X in_X6 hP hm28 q585 dX1_out_52 ?_
      refine ph_iload_n (n := 2) X hl dX1_out_55 rfl rfl ?_
      refine ph_iload_n (n := 3) X hl dX1_out_56 rfl rfl ?_
      obtain ⟨hr35, hF⟩ := hF
      refine cg_iast X hP hm30 hr35 (k := a1.toNatClampNeg) rfl dX1_out_57 hF (fun H locs ι34 hP hF => ?_)
      refine ph_iload (n := 0) X hl dX1_out_58 rfl ?_
      exact hy_iret X hP hag hF hd20.1 hd20.2 dX1_out_60
    · have hF := hF.2 c40
      refine ph_aload_n (n := 1) X hl dX1_out_24 rfl rfl ?_
      refine lv_iconst (v := 1) X.1 X.2.1 dX1_out_25 (by decide) ?_
      refine cg_callVi 1 [iX 1] X hP hm4 (met_X1_refuses l D dA ad g _ _ hF) (cwV 1 X.2.2.2.2.1 (lw_V q888 q890 qs7 q98 q891) rfl rfl rfl (by decide +kernel) ⟨Nat.le_of_ble_eq_true rfl, Nat.le_of_ble_eq_true rfl⟩) rfl hl (k8 := 0) (cs0 (k := 0)) (by decide) hd5 dX1_out_26 rfl (fun r37 ι38 H locs hF hP => ?_)
      exact hy_iret X hP hag hF hd5.1 hd5.2 dX1_out_29
set_option maxHeartbeats 2000000 in
theorem met_X1_out (l : Launch) (D : va_G) (dA : Nat → ClassId) (ad : Nat → Nat) (BC BS : Nat) (hlt : l.stackTraces = false) {Xq : Nat → Nat → GT → S → Prop} (g : GT) (ι : S) (sz : Nat) {a0 : Nat} {a1 : Int32} {a2 : Int32} {Q : Int32 → GT → S → Prop} (hF : P_X1_out BC BS Xq a0 a1 a2 g ι Q) : CYi l yX1_out cX1_out 5 .int ({ frames := 8, cells := BC, slots := BS, locals := 211 } : Room) D dA ad g ι sz [pX a0, iX a1, iX a2] Q Xq BC BS := by
  refine yg_enter [pX a0, iX a1, iX a2] (Qc := fun A => HPi D dA ad g A Q) (XC := fun A => XHC D dA ad g A Xq) (by decide +kernel) (Nat.le_of_ble_eq_true rfl) ?_
  intro p e s m args below meth c A ls X hP hl hex
  exact we_X1_out hlt hex _ _ _ _ _ _ _ _ _ hF X hP HA.rf hl
end HGA
