set_option maxRecDepth 100000
section TWA
variable {p : Program} {l : Launch} {e : Env} {s : State} {m : MethodId} {args : Array Value} {below : List Frame} {meth : Method} {c : Code} {D : va_G} {dA : Nat → ClassId} {ad : Nat → Nat} {A : Nat → Prop}
def P_X8_numberNow_59 (Q : Int32 → S → Prop)  (σ : S) : Prop := ((¬ (σ 0 21) = 0 → (Q 0 σ)) ∧ ((σ 0 21) = 0 → (Q (σ 0 18) σ)))
def P_X8_numberNow_54 (Q : Int32 → S → Prop)  (σ : S) : Prop := (P_X8_wrong 2 σ (fun σ2 => (P_X8_numberNow_59 Q σ2)))
def P_X8_numberNow (a1 : Int32) (a2 : Int32) (σ : S) (Q : Int32 → S → Prop) : Prop := (((σ 0 21) = 0 → (((σ 0 17) = 2 → ((4 < ((σ 0 20) - (σ 0 19)) → (P_X8_numberNow_54 Q σ)) ∧ (¬ 4 < ((σ 0 20) - (σ 0 19)) → (((σ 0 18) < a1 → (P_X8_numberNow_54 Q σ)) ∧ (¬ (σ 0 18) < a1 → (((σ 0 18) ≤ a2 → (P_X8_numberNow_59 Q σ)) ∧ (¬ (σ 0 18) ≤ a2 → (P_X8_numberNow_54 Q σ)))))))) ∧ (¬ (σ 0 17) = 2 → (P_X8_wrong 1 σ (fun σ7 => (P_X8_numberNow_59 Q σ7)))))) ∧ (¬ (σ 0 21) = 0 → (Q 0 σ)))
set_option maxHeartbeats 2000000 in
theorem w_X8_numberNow_59 (X : CX p s m args c meth cX8_numberNow 3 (some .int) RX8 D dA ad A) {Q : Int32 → S → Prop} : ∀  (σ : S) (H : Heap) (locs : List Loc) (ls : Array Slot), P_X8_numberNow_59 Q  σ → PW D dA A s.heap ad (TH σ) H locs → LH ad ls 3 [(0, pX 200)] → WTi p l e ({ frames := 1, cells := 0, slots := 0, locals := 21 } : Room) s m args below meth c D dA ad A Q H locs (F0 m 59 ls []) := by
  intro  σ H locs ls hF hP hl
  unfold P_X8_numberNow_59 at hF
  refine ph_aload_n (n := 0) X hl dX8_numberNow_59 rfl rfl ?_
  refine tw_geti 21 X hP q1791 dX8_numberNow_60 ?_
  refine lv_if_ne (tgt := 73) X.1 X.2.1 dX8_numberNow_63 (by decide) (fun c1 => ?_) (fun c1 => ?_)
  · have hF := hF.1 c1
    refine lv_iconst (v := 0) X.1 X.2.1 dX8_numberNow_73 (by decide) ?_
    exact tw_iret X hP hF dX8_numberNow_74
  · have hF := hF.2 c1
    refine ph_aload_n (n := 0) X hl dX8_numberNow_66 rfl rfl ?_
    refine tw_geti 18 X hP q1788 dX8_numberNow_67 ?_
    refine lv_goto (tgt := 74) X.1 X.2.1 dX8_numberNow_70 (by decide) ?_
    exact tw_iret X hP hF dX8_numberNow_74
set_option maxHeartbeats 2000000 in
theorem w_X8_numberNow_54 (X : CX p s m args c meth cX8_numberNow 3 (some .int) RX8 D dA ad A) {Q : Int32 → S → Prop} : ∀  (σ : S) (H : Heap) (locs : List Loc) (ls : Array Slot), P_X8_numberNow_54 Q  σ → PW D dA A s.heap ad (TH σ) H locs → LH ad ls 3 [(0, pX 200)] → WTi p l e ({ frames := 1, cells := 0, slots := 0, locals := 21 } : Room) s m args below meth c D dA ad A Q H locs (F0 m 54 ls []) := by
  intro  σ H locs ls hF hP hl
  unfold P_X8_numberNow_54 at hF
  refine ph_aload_n (n := 0) X hl dX8_numberNow_54 rfl rfl ?_
  refine lv_iconst (v := 2) X.1 X.2.1 dX8_numberNow_55 (by decide) ?_
  refine tw_callVv [iX 2] X hP (met_X8_wrong l D dA ad _ _ hF) (cwV 1 X.2.2.2.2.1 (lw_V q2044 q2046 qs50 q126 q2047) rfl rfl rfl (by decide +kernel) ⟨Nat.le_of_ble_eq_true rfl, Nat.le_of_ble_eq_true rfl⟩) rfl hl (k8 := 0) (cs0 (k := 0)) (by decide) ⟨Nat.le_refl _, Nat.le_refl _⟩ dX8_numberNow_56 rfl (fun σ2 H locs hF hP => ?_)
  exact w_X8_numberNow_59 X _ _ _ _ hF hP hl
set_option maxHeartbeats 2000000 in
theorem met_X8_numberNow (l : Launch) (D : va_G) (dA : Nat → ClassId) (ad : Nat → Nat) (σ : S) (sz : Nat) {a1 : Int32} {a2 : Int32} {Q : Int32 → S → Prop} (hF : P_X8_numberNow a1 a2 σ Q) : CTi l yX8_numberNow cX8_numberNow 3 .int ({ frames := 1, cells := 0, slots := 0, locals := 21 } : Room) D dA ad σ sz [pX 200, iX a1, iX a2] Q := by
  unfold P_X8_numberNow at hF
  refine ph_enter [pX 200, iX a1, iX a2] (Qc := fun A => va_Qi (TQi Q) (CB D dA ad A) A) (by decide +kernel) (Nat.le_of_ble_eq_true rfl) ?_
  intro p e s m args below meth c A ls X hP hl hnm
  have hl : LH ad ls 3 [(0, pX 200), (1, iX a1), (2, iX a2)] := hl
  refine ph_aload_n (n := 0) X hl dX8_numberNow_0 rfl rfl ?_
  refine tw_geti 21 X hP q1791 dX8_numberNow_1 ?_
  refine lv_if_eq (tgt := 9) X.1 X.2.1 dX8_numberNow_4 (by decide) (fun c10 => ?_) (fun c10 => ?_)
  · have hF := hF.1 c10
    refine ph_aload_n (n := 0) X hl dX8_numberNow_9 rfl rfl ?_
    refine tw_geti 17 X hP q1787 dX8_numberNow_10 ?_
    refine lv_iconst (v := 2) X.1 X.2.1 dX8_numberNow_13 (by decide) ?_
    refine lv_icmp_eq (tgt := 25) X.1 X.2.1 dX8_numberNow_14 (by decide) (fun c9 => ?_) (fun c9 => ?_)
    · have hF := hF.1 c9
      refine ph_aload_n (n := 0) X hl dX8_numberNow_25 rfl rfl ?_
      refine tw_geti 20 X hP q1790 dX8_numberNow_26 ?_
      refine ph_aload_n (n := 0) X hl dX8_numberNow_29 rfl rfl ?_
      refine tw_geti 19 X hP q1789 dX8_numberNow_30 ?_
      refine lv_isub X.1 X.2.1 dX8_numberNow_33 ?_
      refine lv_iconst (v := 4) X.1 X.2.1 dX8_numberNow_34 (by decide) ?_
      refine lv_icmp_gt (tgt := 54) X.1 X.2.1 dX8_numberNow_35 (by decide) (fun c6 => ?_) (fun c6 => ?_)
      · have hF := hF.1 c6
        exact w_X8_numberNow_54 X _ _ _ _ hF hP (lh_sub hl [0] rfl)
      · have hF := hF.2 c6
        refine ph_aload_n (n := 0) X hl dX8_numberNow_38 rfl rfl ?_
        refine tw_geti 18 X hP q1788 dX8_numberNow_39 ?_
        refine ph_iload_n (n := 1) X hl dX8_numberNow_42 rfl rfl ?_
        refine lv_icmp_lt (tgt := 54) X.1 X.2.1 dX8_numberNow_43 (by decide) (fun c5 => ?_) (fun c5 => ?_)
        · have hF := hF.1 c5
          exact w_X8_numberNow_54 X _ _ _ _ hF hP (lh_sub hl [0] rfl)
        · have hF := hF.2 c5
          refine ph_aload_n (n := 0) X hl dX8_numberNow_46 rfl rfl ?_
          refine tw_geti 18 X hP q1788 dX8_numberNow_47 ?_
          refine ph_iload_n (n := 2) X hl dX8_numberNow_50 rfl rfl ?_
          refine lv_icmp_le (tgt := 59) X.1 X.2.1 dX8_numberNow_51 (by decide) (fun c4 => ?_) (fun c4 => ?_)
          · have hF := hF.1 c4
            exact w_X8_numberNow_59 X _ _ _ _ hF hP (lh_sub hl [0] rfl)
          · have hF := hF.2 c4
            exact w_X8_numberNow_54 X _ _ _ _ hF hP (lh_sub hl [0] rfl)
    · have hF := hF.2 c9
      refine ph_aload_n (n := 0) X hl dX8_numberNow_17 rfl rfl ?_
      refine lv_iconst (v := 1) X.1 X.2.1 dX8_numberNow_18 (by decide) ?_
      refine tw_callVv [iX 1] X hP (met_X8_wrong l D dA ad _ _ hF) (cwV 1 X.2.2.2.2.1 (lw_V q2044 q2046 qs50 q126 q2047) rfl rfl rfl (by decide +kernel) ⟨Nat.le_of_ble_eq_true rfl, Nat.le_of_ble_eq_true rfl⟩) rfl hl (k8 := 0) (cs0 (k := 0)) (by decide) ⟨Nat.le_refl _, Nat.le_refl _⟩ dX8_numberNow_19 rfl (fun σ7 H locs hF hP => ?_)
      refine lv_goto (tgt := 59) X.1 X.2.1 dX8_numberNow_22 (by decide) ?_
      exact w_X8_numberNow_59 X _ _ _ _ hF hP (lh_sub hl [0] rfl)
  · have hF := hF.2 c10
    refine lv_iconst (v := 0) X.1 X.2.1 dX8_numberNow_7 (by decide) ?_
    exact tw_iret X hP hF dX8_numberNow_8
def P_X8_readNumber (a1 : Int32) (a2 : Int32) (σ : S) (Q : Int32 → S → Prop) : Prop := (P_X8_numberNow a1 a2 σ (fun r2 σ1 => ((¬ (σ1 0 21) = 0 → (Q r2 σ1)) ∧ ((σ1 0 21) = 0 → (P_X8_stepOn σ1 (fun σ3 => (Q r2 σ3)))))))
set_option maxHeartbeats 2000000 in
theorem met_X8_readNumber (l : Launch) (D : va_G) (dA : Nat → ClassId) (ad : Nat → Nat) (σ : S) (sz : Nat) {a1 : Int32} {a2 : Int32} {Q : Int32 → S → Prop} (hF : P_X8_readNumber a1 a2 σ Q) : CTi l yX8_readNumber cX8_readNumber 4 .int ({ frames := 2, cells := 0, slots := 0, locals := 43 } : Room) D dA ad σ sz [pX 200, iX a1, iX a2] Q := by
  unfold P_X8_readNumber at hF
  refine ph_enter [pX 200, iX a1, iX a2] (Qc := fun A => va_Qi (TQi Q) (CB D dA ad A) A) (by decide +kernel) (Nat.le_of_ble_eq_true rfl) ?_
  intro p e s m args below meth c A ls X hP hl hnm
  have hl : LH ad ls 4 [(0, pX 200), (1, iX a1), (2, iX a2)] := hl
  refine ph_aload_n (n := 0) X hl dX8_readNumber_0 rfl rfl ?_
  refine ph_iload_n (n := 1) X hl dX8_readNumber_1 rfl rfl ?_
  refine ph_iload_n (n := 2) X hl dX8_readNumber_2 rfl rfl ?_
  refine tw_callVi [iX a1, iX a2] X hP (met_X8_numberNow l D dA ad _ _ hF) (cwV 2 X.2.2.2.2.1 (lw_V q2052 q2054 qs52 q126 q2055) rfl rfl rfl (by decide +kernel) ⟨Nat.le_of_ble_eq_true rfl, Nat.le_of_ble_eq_true rfl⟩) rfl hl (k8 := 0) (cs0 (k := 0)) (by decide) ⟨Nat.le_refl _, Nat.le_refl _⟩ dX8_readNumber_3 rfl (fun r2 σ1 H locs hF hP => ?_)
  refine ph_istore_n X hl dX8_readNumber_6 rfl (by decide) rfl (fun ls hl => ?_)
  refine ph_aload_n (n := 1) X hl dX8_readNumber_7 rfl rfl ?_
  refine tw_geti 21 X hP q1791 dX8_readNumber_8 ?_
  refine lv_if_ne (tgt := 18) X.1 X.2.1 dX8_readNumber_11 (by decide) (fun c5 => ?_) (fun c5 => ?_)
  · have hF := hF.1 c5
    refine ph_iload_n (n := 0) X hl dX8_readNumber_18 rfl rfl ?_
    exact tw_iret X hP hF dX8_readNumber_19
  · have hF := hF.2 c5
    refine ph_aload_n (n := 1) X hl dX8_readNumber_14 rfl rfl ?_
    refine tw_callVv [] X hP (met_X8_stepOn l D dA ad _ _ hF) (cwV 0 X.2.2.2.2.1 (lw_V q2006 q2008 qs45 q126 q2009) rfl rfl rfl (by decide +kernel) ⟨Nat.le_of_ble_eq_true rfl, Nat.le_of_ble_eq_true rfl⟩) rfl hl (k8 := 0) (cs0 (k := 0)) (by decide) ⟨Nat.le_refl _, Nat.le_refl _⟩ dX8_readNumber_15 rfl (fun σ3 H locs hF hP => ?_)
    refine ph_iload_n (n := 0) X hl dX8_readNumber_18 rfl rfl ?_
    exact tw_iret X hP hF dX8_readNumber_19
def P_X8_sleeperNow_32 (Q : Int32 → S → Prop) (x1 : Int32) (σ : S) : Prop := ((¬ (σ 0 21) = 0 → (Q 0 σ)) ∧ ((σ 0 21) = 0 → (Q x1 σ)))
def P_X8_sleeperNow  (σ : S) (Q : Int32 → S → Prop) : Prop := (P_X8_numberNow 0 9999 σ (fun r3 σ2 => ((¬ (σ2 0 21) = 0 → (P_X8_sleeperNow_32 Q r3 σ2)) ∧ ((σ2 0 21) = 0 → ((r3 < (σ2 3 8) → (P_X8_sleeperNow_32 Q r3 σ2)) ∧ (¬ r3 < (σ2 3 8) → (P_X8_wrong 3 σ2 (fun σ4 => (P_X8_sleeperNow_32 Q r3 σ4)))))))))
set_option maxHeartbeats 2000000 in
theorem w_X8_sleeperNow_32 (X : CX p s m args c meth cX8_sleeperNow 2 (some .int) RX8 D dA ad A) {Q : Int32 → S → Prop} : ∀ (x1 : Int32) (σ : S) (H : Heap) (locs : List Loc) (ls : Array Slot), P_X8_sleeperNow_32 Q x1 σ → PW D dA A s.heap ad (TH σ) H locs → LH ad ls 2 [(0, pX 200), (1, iX x1)] → WTi p l e ({ frames := 2, cells := 0, slots := 0, locals := 43 } : Room) s m args below meth c D dA ad A Q H locs (F0 m 32 ls []) := by
  intro x1 σ H locs ls hF hP hl
  unfold P_X8_sleeperNow_32 at hF
  refine ph_aload_n (n := 0) X hl dX8_sleeperNow_32 rfl rfl ?_
  refine tw_geti 21 X hP q1791 dX8_sleeperNow_33 ?_
  refine lv_if_ne (tgt := 43) X.1 X.2.1 dX8_sleeperNow_36 (by decide) (fun c1 => ?_) (fun c1 => ?_)
  · have hF := hF.1 c1
    refine lv_iconst (v := 0) X.1 X.2.1 dX8_sleeperNow_43 (by decide) ?_
    exact tw_iret X hP hF dX8_sleeperNow_44
  · have hF := hF.2 c1
    refine ph_iload_n (n := 1) X hl dX8_sleeperNow_39 rfl rfl ?_
    refine lv_goto (tgt := 44) X.1 X.2.1 dX8_sleeperNow_40 (by decide) ?_
    exact tw_iret X hP hF dX8_sleeperNow_44
set_option maxHeartbeats 2000000 in
theorem met_X8_sleeperNow (l : Launch) (D : va_G) (dA : Nat → ClassId) (ad : Nat → Nat) (σ : S) (sz : Nat) {Q : Int32 → S → Prop} (hF : P_X8_sleeperNow  σ Q) : CTi l yX8_sleeperNow cX8_sleeperNow 2 .int ({ frames := 2, cells := 0, slots := 0, locals := 43 } : Room) D dA ad σ sz [pX 200] Q := by
  unfold P_X8_sleeperNow at hF
  refine ph_enter [pX 200] (Qc := fun A => va_Qi (TQi Q) (CB D dA ad A) A) (by decide +kernel) (Nat.le_of_ble_eq_true rfl) ?_
  intro p e s m args below meth c A ls X hP hl hnm
  have hl : LH ad ls 2 [(0, pX 200)] := hl
  refine ph_aload_n (n := 0) X hl dX8_sleeperNow_0 rfl rfl ?_
  refine lv_iconst (v := 0) X.1 X.2.1 dX8_sleeperNow_1 (by decide) ?_
  refine lv_sipush (v := 9999) X.1 X.2.1 dX8_sleeperNow_2 (by decide) ?_
  refine tw_callVi [iX 0, iX 9999] X hP (met_X8_numberNow l D dA ad _ _ hF) (cwV 2 X.2.2.2.2.1 (lw_V q2052 q2054 qs52 q126 q2055) rfl rfl rfl (by decide +kernel) ⟨Nat.le_of_ble_eq_true rfl, Nat.le_of_ble_eq_true rfl⟩) rfl hl (k8 := 0) (cs0 (k := 0)) (by decide) ⟨Nat.le_refl _, Nat.le_refl _⟩ dX8_sleeperNow_5 rfl (fun r3 σ2 H locs hF hP => ?_)
  refine ph_istore_n X hl dX8_sleeperNow_8 rfl (by decide) rfl (fun ls hl => ?_)
  refine ph_aload_n (n := 1) X hl dX8_sleeperNow_9 rfl rfl ?_
  refine tw_geti 21 X hP q1791 dX8_sleeperNow_10 ?_
  refine lv_if_ne (tgt := 32) X.1 X.2.1 dX8_sleeperNow_13 (by decide) (fun c7 => ?_) (fun c7 => ?_)
  · have hF := hF.1 c7
    exact w_X8_sleeperNow_32 X _ _ _ _ _ hF hP (lh_sub hl [1, 0] rfl)
  · have hF := hF.2 c7
    refine ph_iload_n (n := 0) X hl dX8_sleeperNow_16 rfl rfl ?_
    refine ph_aload_n (n := 1) X hl dX8_sleeperNow_17 rfl rfl ?_
    refine tw_getr 3 203 X hP q1773 dX8_sleeperNow_18 ?_
    refine lv_bipush (v := 8) X.1 X.2.1 dX8_sleeperNow_21 (by decide) ?_
    refine tw_ald 3 (n := 16) X hP (vin (by decide)) (k := 8) (by decide) dX8_sleeperNow_23 ?_
    refine lv_icmp_lt (tgt := 32) X.1 X.2.1 dX8_sleeperNow_24 (by decide) (fun c6 => ?_) (fun c6 => ?_)
    · have hF := hF.1 c6
      exact w_X8_sleeperNow_32 X _ _ _ _ _ hF hP (lh_sub hl [1, 0] rfl)
    · have hF := hF.2 c6
      refine ph_aload_n (n := 1) X hl dX8_sleeperNow_27 rfl rfl ?_
      refine lv_iconst (v := 3) X.1 X.2.1 dX8_sleeperNow_28 (by decide) ?_
      refine tw_callVv [iX 3] X hP (met_X8_wrong l D dA ad _ _ hF) (cwV 1 X.2.2.2.2.1 (lw_V q2044 q2046 qs50 q126 q2047) rfl rfl rfl (by decide +kernel) ⟨Nat.le_of_ble_eq_true rfl, Nat.le_of_ble_eq_true rfl⟩) rfl hl (k8 := 0) (cs0 (k := 0)) (by decide) ⟨Nat.le_refl _, Nat.le_refl _⟩ dX8_sleeperNow_29 rfl (fun σ4 H locs hF hP => ?_)
      exact w_X8_sleeperNow_32 X _ _ _ _ _ hF hP (lh_sub hl [1, 0] rfl)
def P_X8_lay (a1 : Int32) (σ : S) (Q : S → Prop) : Prop := (((σ 0 21) = 0 → (vp_in (600 + (σ 3 15)) 1200 ∧ (∀ σ1, σ1 = up2 σ 11 ((600 + (σ 3 15)).toNatClampNeg) a1 → (∀ σ3, σ3 = up2 σ1 3 15 ((σ1 3 15) + 1) → (Q σ3))))) ∧ (¬ (σ 0 21) = 0 → (Q σ)))
set_option maxHeartbeats 2000000 in
theorem met_X8_lay (l : Launch) (D : va_G) (dA : Nat → ClassId) (ad : Nat → Nat) (σ : S) (sz : Nat) {a1 : Int32} {Q : S → Prop} (hF : P_X8_lay a1 σ Q) : CTv l yX8_lay cX8_lay 2 ({ frames := 0, cells := 0, slots := 0, locals := 0 } : Room) D dA ad σ sz [pX 200, iX a1] Q := by
  unfold P_X8_lay at hF
  refine ph_enter [pX 200, iX a1] (Qc := fun A => va_Qv (TQv Q) (CB D dA ad A) A) (by decide +kernel) (Nat.le_of_ble_eq_true rfl) ?_
  intro p e s m args below meth c A ls X hP hl hnm
  have hl : LH ad ls 2 [(0, pX 200), (1, iX a1)] := hl
  refine ph_aload_n (n := 0) X hl dX8_lay_0 rfl rfl ?_
  refine tw_geti 21 X hP q1791 dX8_lay_1 ?_
  refine lv_if_eq (tgt := 8) X.1 X.2.1 dX8_lay_4 (by decide) (fun c4 => ?_) (fun c4 => ?_)
  · have hF := hF.1 c4
    refine ph_aload_n (n := 0) X hl dX8_lay_8 rfl rfl ?_
    refine tw_getr 11 211 X hP q1781 dX8_lay_9 ?_
    refine lv_sipush (v := 600) X.1 X.2.1 dX8_lay_12 (by decide) ?_
    refine ph_aload_n (n := 0) X hl dX8_lay_15 rfl rfl ?_
    refine tw_getr 3 203 X hP q1773 dX8_lay_16 ?_
    refine lv_bipush (v := 15) X.1 X.2.1 dX8_lay_19 (by decide) ?_
    refine tw_ald 3 (n := 16) X hP (vin (by decide)) (k := 15) (by decide) dX8_lay_21 ?_
    refine lv_iadd X.1 X.2.1 dX8_lay_22 ?_
    refine ph_iload_n (n := 1) X hl dX8_lay_23 rfl rfl ?_
    obtain ⟨hr2, hF⟩ := hF
    refine tw_ast 11 (n := 1200) X hP hr2 (k := (600 + (σ 3 15)).toNatClampNeg) rfl dX8_lay_24 hF (fun H locs σ1 hP hF => ?_)
    refine ph_aload_n (n := 0) X hl dX8_lay_25 rfl rfl ?_
    refine tw_getr 3 203 X hP q1773 dX8_lay_26 ?_
    refine lv_bipush (v := 15) X.1 X.2.1 dX8_lay_29 (by decide) ?_
    refine ph_dup2_ir X dX8_lay_31 ?_
    refine tw_ald 3 (n := 16) X hP (vin (by decide)) (k := 15) (by decide) dX8_lay_32 ?_
    refine lv_iconst (v := 1) X.1 X.2.1 dX8_lay_33 (by decide) ?_
    refine lv_iadd X.1 X.2.1 dX8_lay_34 ?_
    refine tw_ast 3 (n := 16) X hP (vin (by decide)) (k := 15) (by decide) dX8_lay_35 hF (fun H locs σ3 hP hF => ?_)
    exact tw_vret X hP hF dX8_lay_36
  · have hF := hF.2 c4
    exact tw_vret X hP hF dX8_lay_7
def P_X8_readSleeper_184 (Q : S → Prop) (y1 : Int32) (y2 : Int32) (x2 : Int32) (σ : S) : Prop := (vp_in y1 14 ∧ (∀ σ1, σ1 = up2 σ 9 y1.toNatClampNeg y2 → (vp_in x2 14 ∧ (∀ σ3, σ3 = up2 σ1 10 x2.toNatClampNeg 0 → (∀ σ5, σ5 = up2 σ3 3 8 ((σ3 3 8) + 1) → (Q σ5))))))
def P_X8_readSleeper_163 (Q : S → Prop) (y1 : Int32) (y2 : Int32) (x2 : Int32) (x3 : Int32) (σ : S) : Prop := (vp_in y1 14 ∧ (∀ σ6, σ6 = up2 σ 8 y1.toNatClampNeg y2 → ((x3 = 0 → (P_X8_readNumber 0 10 σ6 (fun r9 σ8 => (P_X8_readSleeper_184 Q x2 r9 x2 σ8)))) ∧ (¬ x3 = 0 → (P_X8_readSleeper_184 Q x2 0 x2 σ6)))))
def P_X8_readSleeper_128 (Q : S → Prop) (y1 : Int32) (y2 : Int32) (x2 : Int32) (x3 : Int32) (σ : S) : Prop := (vp_in y1 14 ∧ (∀ σ11, σ11 = up2 σ 6 y1.toNatClampNeg y2 → (P_X8_readNumber 1 9 σ11 (fun r14 σ13 => (vp_in x2 14 ∧ (∀ σ15, σ15 = up2 σ13 7 x2.toNatClampNeg r14 → ((x3 = 0 → (P_X8_readNumber 0 600 σ15 (fun r18 σ17 => (P_X8_readSleeper_163 Q x2 r18 x2 x3 σ17)))) ∧ (¬ x3 = 0 → (P_X8_readSleeper_163 Q x2 0 x2 x3 σ15)))))))))
def P_X8_readSleeper_107 (Q : S → Prop) (y1 : Int32) (y2 : Int32) (x2 : Int32) (x3 : Int32) (σ : S) : Prop := (vp_in y1 28 ∧ (∀ σ20, σ20 = up2 σ 5 y1.toNatClampNeg y2 → ((x3 = 0 → (P_X8_readNumber 0 9 σ20 (fun r23 σ22 => (P_X8_readSleeper_128 Q x2 r23 x2 x3 σ22)))) ∧ (¬ x3 = 0 → (P_X8_readSleeper_128 Q x2 0 x2 x3 σ20)))))
def P_X8_readSleeper_81 (Q : S → Prop) (y1 : Int32) (y2 : Int32) (x2 : Int32) (x3 : Int32) (σ : S) : Prop := (vp_in y1 28 ∧ (∀ σ25, σ25 = up2 σ 5 y1.toNatClampNeg y2 → ((x3 = 0 → (P_X8_readNumber 1 240 σ25 (fun r28 σ27 => (P_X8_readSleeper_107 Q ((2 * x2) + 1) r28 x2 x3 σ27)))) ∧ (¬ x3 = 0 → (P_X8_readSleeper_107 Q ((2 * x2) + 1) 0 x2 x3 σ25)))))
def P_X8_readSleeper_50 (Q : S → Prop) (y0 : Int32) (x1 : Int32) (x2 : Int32) (σ : S) : Prop := (vp_in x2 14 ∧ (∀ σ30, σ30 = up2 σ 4 x2.toNatClampNeg x1 → ((y0 = 0 → (P_X8_readNumber 1 240 σ30 (fun r33 σ32 => (P_X8_readSleeper_81 Q (2 * x2) r33 x2 y0 σ32)))) ∧ (¬ y0 = 0 → (P_X8_readSleeper_81 Q (2 * x2) 0 x2 y0 σ30)))))
def P_X8_readSleeper_17 (Q : S → Prop) (x1 : Int32) (σ : S) : Prop := (((σ 0 21) = 0 → (P_X8_stepOn σ (fun σ35 => ((¬ x1 = 3 → (P_X8_readSleeper_50 Q 0 x1 (7 + (σ35 3 8)) σ35)) ∧ (x1 = 3 → (P_X8_readSleeper_50 Q 1 x1 (7 + (σ35 3 8)) σ35)))))) ∧ (¬ (σ 0 21) = 0 → (Q σ)))
def P_X8_readSleeper (a1 : Int32) (σ : S) (Q : S → Prop) : Prop := ((¬ (σ 3 8) = 7 → (P_X8_readSleeper_17 Q a1 σ)) ∧ ((σ 3 8) = 7 → (P_X8_wrong 2 σ (fun σ39 => (P_X8_readSleeper_17 Q a1 σ39)))))
set_option maxHeartbeats 2000000 in
theorem w_X8_readSleeper_184 (X : CX p s m args c meth cX8_readSleeper 4 none RX8 D dA ad A) {Q : S → Prop} : ∀ (y1 : Int32) (y2 : Int32) (x2 : Int32) (σ : S) (H : Heap) (locs : List Loc) (ls : Array Slot), P_X8_readSleeper_184 Q y1 y2 x2 σ → PW D dA A s.heap ad (TH σ) H locs → LH ad ls 4 [(0, pX 200), (2, iX x2)] → WTv p l e ({ frames := 3, cells := 0, slots := 0, locals := 66 } : Room) s m args below meth c D dA ad A Q H locs (F0 m 184 ls [.int y2, .int y1, rv ad 209]) := by
  intro y1 y2 x2 σ H locs ls hF hP hl
  unfold P_X8_readSleeper_184 at hF
  obtain ⟨hr2, hF⟩ := hF
  refine tw_ast 9 (n := 14) X hP hr2 (k := y1.toNatClampNeg) rfl dX8_readSleeper_184 hF (fun H locs σ1 hP hF => ?_)
  refine ph_aload_n (n := 0) X hl dX8_readSleeper_185 rfl rfl ?_
  refine tw_getr 10 210 X hP q1780 dX8_readSleeper_186 ?_
  refine ph_iload_n (n := 1) X hl dX8_readSleeper_189 rfl rfl ?_
  refine lv_iconst (v := 0) X.1 X.2.1 dX8_readSleeper_190 (by decide) ?_
  obtain ⟨hr4, hF⟩ := hF
  refine tw_ast 10 (n := 14) X hP hr4 (k := x2.toNatClampNeg) rfl dX8_readSleeper_191 hF (fun H locs σ3 hP hF => ?_)
  refine ph_aload_n (n := 0) X hl dX8_readSleeper_192 rfl rfl ?_
  refine tw_getr 3 203 X hP q1773 dX8_readSleeper_193 ?_
  refine lv_bipush (v := 8) X.1 X.2.1 dX8_readSleeper_196 (by decide) ?_
  refine ph_dup2_ir X dX8_readSleeper_198 ?_
  refine tw_ald 3 (n := 16) X hP (vin (by decide)) (k := 8) (by decide) dX8_readSleeper_199 ?_
  refine lv_iconst (v := 1) X.1 X.2.1 dX8_readSleeper_200 (by decide) ?_
  refine lv_iadd X.1 X.2.1 dX8_readSleeper_201 ?_
  refine tw_ast 3 (n := 16) X hP (vin (by decide)) (k := 8) (by decide) dX8_readSleeper_202 hF (fun H locs σ5 hP hF => ?_)
  exact tw_vret X hP hF dX8_readSleeper_203
set_option maxHeartbeats 2000000 in
theorem w_X8_readSleeper_163 (X : CX p s m args c meth cX8_readSleeper 4 none RX8 D dA ad A) {Q : S → Prop} : ∀ (y1 : Int32) (y2 : Int32) (x2 : Int32) (x3 : Int32) (σ : S) (H : Heap) (locs : List Loc) (ls : Array Slot), P_X8_readSleeper_163 Q y1 y2 x2 x3 σ → PW D dA A s.heap ad (TH σ) H locs → LH ad ls 4 [(0, pX 200), (2, iX x2), (3, iX x3)] → WTv p l e ({ frames := 3, cells := 0, slots := 0, locals := 66 } : Room) s m args below meth c D dA ad A Q H locs (F0 m 163 ls [.int y2, .int y1, rv ad 208]) := by
  intro y1 y2 x2 x3 σ H locs ls hF hP hl
  unfold P_X8_readSleeper_163 at hF
  obtain ⟨hr7, hF⟩ := hF
  refine tw_ast 8 (n := 14) X hP hr7 (k := y1.toNatClampNeg) rfl dX8_readSleeper_163 hF (fun H locs σ6 hP hF => ?_)
  refine ph_aload_n (n := 0) X hl dX8_readSleeper_164 rfl rfl ?_
  refine tw_getr 9 209 X hP q1779 dX8_readSleeper_165 ?_
  refine ph_iload_n (n := 1) X hl dX8_readSleeper_168 rfl rfl ?_
  refine ph_iload_n (n := 2) X hl dX8_readSleeper_169 rfl rfl ?_
  refine lv_if_eq (tgt := 177) X.1 X.2.1 dX8_readSleeper_170 (by decide) (fun c10 => ?_) (fun c10 => ?_)
  · have hF := hF.1 c10
    refine ph_aload_n (n := 0) X hl dX8_readSleeper_177 rfl rfl ?_
    refine lv_iconst (v := 0) X.1 X.2.1 dX8_readSleeper_178 (by decide) ?_
    refine lv_bipush (v := 10) X.1 X.2.1 dX8_readSleeper_179 (by decide) ?_
    refine tw_callVi [iX 0, iX 10] X hP (met_X8_readNumber l D dA ad _ _ hF) (cwV 2 X.2.2.2.2.1 (lw_V q2048 q2050 qs51 q126 q2051) rfl rfl rfl (by decide +kernel) ⟨Nat.le_of_ble_eq_true rfl, Nat.le_of_ble_eq_true rfl⟩) rfl hl (k8 := 2) (csi (csr (cs0 (k := 0)))) (by decide) ⟨Nat.le_refl _, Nat.le_refl _⟩ dX8_readSleeper_181 rfl (fun r9 σ8 H locs hF hP => ?_)
    exact w_X8_readSleeper_184 X _ _ _ _ _ _ _ hF hP (lh_sub hl [0, 1] rfl)
  · have hF := hF.2 c10
    refine lv_iconst (v := 0) X.1 X.2.1 dX8_readSleeper_173 (by decide) ?_
    refine lv_goto (tgt := 184) X.1 X.2.1 dX8_readSleeper_174 (by decide) ?_
    exact w_X8_readSleeper_184 X _ _ _ _ _ _ _ hF hP (lh_sub hl [0, 1] rfl)
set_option maxHeartbeats 2000000 in
theorem w_X8_readSleeper_128 (X : CX p s m args c meth cX8_readSleeper 4 none RX8 D dA ad A) {Q : S → Prop} : ∀ (y1 : Int32) (y2 : Int32) (x2 : Int32) (x3 : Int32) (σ : S) (H : Heap) (locs : List Loc) (ls : Array Slot), P_X8_readSleeper_128 Q y1 y2 x2 x3 σ → PW D dA A s.heap ad (TH σ) H locs → LH ad ls 4 [(0, pX 200), (2, iX x2), (3, iX x3)] → WTv p l e ({ frames := 3, cells := 0, slots := 0, locals := 66 } : Room) s m args below meth c D dA ad A Q H locs (F0 m 128 ls [.int y2, .int y1, rv ad 206]) := by
  intro y1 y2 x2 x3 σ H locs ls hF hP hl
  unfold P_X8_readSleeper_128 at hF
  obtain ⟨hr12, hF⟩ := hF
  refine tw_ast 6 (n := 14) X hP hr12 (k := y1.toNatClampNeg) rfl dX8_readSleeper_128 hF (fun H locs σ11 hP hF => ?_)
  refine ph_aload_n (n := 0) X hl dX8_readSleeper_129 rfl rfl ?_
  refine tw_getr 7 207 X hP q1777 dX8_readSleeper_130 ?_
  refine ph_iload_n (n := 1) X hl dX8_readSleeper_133 rfl rfl ?_
  refine ph_aload_n (n := 0) X hl dX8_readSleeper_134 rfl rfl ?_
  refine lv_iconst (v := 1) X.1 X.2.1 dX8_readSleeper_135 (by decide) ?_
  refine lv_bipush (v := 9) X.1 X.2.1 dX8_readSleeper_136 (by decide) ?_
  refine tw_callVi [iX 1, iX 9] X hP (met_X8_readNumber l D dA ad _ _ hF) (cwV 2 X.2.2.2.2.1 (lw_V q2048 q2050 qs51 q126 q2051) rfl rfl rfl (by decide +kernel) ⟨Nat.le_of_ble_eq_true rfl, Nat.le_of_ble_eq_true rfl⟩) rfl hl (k8 := 2) (csi (csr (cs0 (k := 0)))) (by decide) ⟨Nat.le_refl _, Nat.le_refl _⟩ dX8_readSleeper_138 rfl (fun r14 σ13 H locs hF hP => ?_)
  obtain ⟨hr16, hF⟩ := hF
  refine tw_ast 7 (n := 14) X hP hr16 (k := x2.toNatClampNeg) rfl dX8_readSleeper_141 hF (fun H locs σ15 hP hF => ?_)
  refine ph_aload_n (n := 0) X hl dX8_readSleeper_142 rfl rfl ?_
  refine tw_getr 8 208 X hP q1778 dX8_readSleeper_143 ?_
  refine ph_iload_n (n := 1) X hl dX8_readSleeper_146 rfl rfl ?_
  refine ph_iload_n (n := 2) X hl dX8_readSleeper_147 rfl rfl ?_
  refine lv_if_eq (tgt := 155) X.1 X.2.1 dX8_readSleeper_148 (by decide) (fun c19 => ?_) (fun c19 => ?_)
  · have hF := hF.1 c19
    refine ph_aload_n (n := 0) X hl dX8_readSleeper_155 rfl rfl ?_
    refine lv_iconst (v := 0) X.1 X.2.1 dX8_readSleeper_156 (by decide) ?_
    refine lv_sipush (v := 600) X.1 X.2.1 dX8_readSleeper_157 (by decide) ?_
    refine tw_callVi [iX 0, iX 600] X hP (met_X8_readNumber l D dA ad _ _ hF) (cwV 2 X.2.2.2.2.1 (lw_V q2048 q2050 qs51 q126 q2051) rfl rfl rfl (by decide +kernel) ⟨Nat.le_of_ble_eq_true rfl, Nat.le_of_ble_eq_true rfl⟩) rfl hl (k8 := 2) (csi (csr (cs0 (k := 0)))) (by decide) ⟨Nat.le_refl _, Nat.le_refl _⟩ dX8_readSleeper_160 rfl (fun r18 σ17 H locs hF hP => ?_)
    exact w_X8_readSleeper_163 X _ _ _ _ _ _ _ _ hF hP hl
  · have hF := hF.2 c19
    refine lv_iconst (v := 0) X.1 X.2.1 dX8_readSleeper_151 (by decide) ?_
    refine lv_goto (tgt := 163) X.1 X.2.1 dX8_readSleeper_152 (by decide) ?_
    exact w_X8_readSleeper_163 X _ _ _ _ _ _ _ _ hF hP hl
set_option maxHeartbeats 2000000 in
theorem w_X8_readSleeper_107 (X : CX p s m args c meth cX8_readSleeper 4 none RX8 D dA ad A) {Q : S → Prop} : ∀ (y1 : Int32) (y2 : Int32) (x2 : Int32) (x3 : Int32) (σ : S) (H : Heap) (locs : List Loc) (ls : Array Slot), P_X8_readSleeper_107 Q y1 y2 x2 x3 σ → PW D dA A s.heap ad (TH σ) H locs → LH ad ls 4 [(0, pX 200), (2, iX x2), (3, iX x3)] → WTv p l e ({ frames := 3, cells := 0, slots := 0, locals := 66 } : Room) s m args below meth c D dA ad A Q H locs (F0 m 107 ls [.int y2, .int y1, rv ad 205]) := by
  intro y1 y2 x2 x3 σ H locs ls hF hP hl
  unfold P_X8_readSleeper_107 at hF
  obtain ⟨hr21, hF⟩ := hF
  refine tw_ast 5 (n := 28) X hP hr21 (k := y1.toNatClampNeg) rfl dX8_readSleeper_107 hF (fun H locs σ20 hP hF => ?_)
  refine ph_aload_n (n := 0) X hl dX8_readSleeper_108 rfl rfl ?_
  refine tw_getr 6 206 X hP q1776 dX8_readSleeper_109 ?_
  refine ph_iload_n (n := 1) X hl dX8_readSleeper_112 rfl rfl ?_
  refine ph_iload_n (n := 2) X hl dX8_readSleeper_113 rfl rfl ?_
  refine lv_if_eq (tgt := 121) X.1 X.2.1 dX8_readSleeper_114 (by decide) (fun c24 => ?_) (fun c24 => ?_)
  · have hF := hF.1 c24
    refine ph_aload_n (n := 0) X hl dX8_readSleeper_121 rfl rfl ?_
    refine lv_iconst (v := 0) X.1 X.2.1 dX8_readSleeper_122 (by decide) ?_
    refine lv_bipush (v := 9) X.1 X.2.1 dX8_readSleeper_123 (by decide) ?_
    refine tw_callVi [iX 0, iX 9] X hP (met_X8_readNumber l D dA ad _ _ hF) (cwV 2 X.2.2.2.2.1 (lw_V q2048 q2050 qs51 q126 q2051) rfl rfl rfl (by decide +kernel) ⟨Nat.le_of_ble_eq_true rfl, Nat.le_of_ble_eq_true rfl⟩) rfl hl (k8 := 2) (csi (csr (cs0 (k := 0)))) (by decide) ⟨Nat.le_refl _, Nat.le_refl _⟩ dX8_readSleeper_125 rfl (fun r23 σ22 H locs hF hP => ?_)
    exact w_X8_readSleeper_128 X _ _ _ _ _ _ _ _ hF hP hl
  · have hF := hF.2 c24
    refine lv_iconst (v := 0) X.1 X.2.1 dX8_readSleeper_117 (by decide) ?_
    refine lv_goto (tgt := 128) X.1 X.2.1 dX8_readSleeper_118 (by decide) ?_
    exact w_X8_readSleeper_128 X _ _ _ _ _ _ _ _ hF hP hl
set_option maxHeartbeats 2000000 in
theorem w_X8_readSleeper_81 (X : CX p s m args c meth cX8_readSleeper 4 none RX8 D dA ad A) {Q : S → Prop} : ∀ (y1 : Int32) (y2 : Int32) (x2 : Int32) (x3 : Int32) (σ : S) (H : Heap) (locs : List Loc) (ls : Array Slot), P_X8_readSleeper_81 Q y1 y2 x2 x3 σ → PW D dA A s.heap ad (TH σ) H locs → LH ad ls 4 [(0, pX 200), (2, iX x2), (3, iX x3)] → WTv p l e ({ frames := 3, cells := 0, slots := 0, locals := 66 } : Room) s m args below meth c D dA ad A Q H locs (F0 m 81 ls [.int y2, .int y1, rv ad 205]) := by
  intro y1 y2 x2 x3 σ H locs ls hF hP hl
  unfold P_X8_readSleeper_81 at hF
  obtain ⟨hr26, hF⟩ := hF
  refine tw_ast 5 (n := 28) X hP hr26 (k := y1.toNatClampNeg) rfl dX8_readSleeper_81 hF (fun H locs σ25 hP hF => ?_)
  refine ph_aload_n (n := 0) X hl dX8_readSleeper_82 rfl rfl ?_
  refine tw_getr 5 205 X hP q1775 dX8_readSleeper_83 ?_
  refine lv_iconst (v := 2) X.1 X.2.1 dX8_readSleeper_86 (by decide) ?_
  refine ph_iload_n (n := 1) X hl dX8_readSleeper_87 rfl rfl ?_
  refine lv_imul X.1 X.2.1 dX8_readSleeper_88 ?_
  refine lv_iconst (v := 1) X.1 X.2.1 dX8_readSleeper_89 (by decide) ?_
  refine lv_iadd X.1 X.2.1 dX8_readSleeper_90 ?_
  refine ph_iload_n (n := 2) X hl dX8_readSleeper_91 rfl rfl ?_
  refine lv_if_eq (tgt := 99) X.1 X.2.1 dX8_readSleeper_92 (by decide) (fun c29 => ?_) (fun c29 => ?_)
  · have hF := hF.1 c29
    refine ph_aload_n (n := 0) X hl dX8_readSleeper_99 rfl rfl ?_
    refine lv_iconst (v := 1) X.1 X.2.1 dX8_readSleeper_100 (by decide) ?_
    refine lv_sipush (v := 240) X.1 X.2.1 dX8_readSleeper_101 (by decide) ?_
    refine tw_callVi [iX 1, iX 240] X hP (met_X8_readNumber l D dA ad _ _ hF) (cwV 2 X.2.2.2.2.1 (lw_V q2048 q2050 qs51 q126 q2051) rfl rfl rfl (by decide +kernel) ⟨Nat.le_of_ble_eq_true rfl, Nat.le_of_ble_eq_true rfl⟩) rfl hl (k8 := 2) (csi (csr (cs0 (k := 0)))) (by decide) ⟨Nat.le_refl _, Nat.le_refl _⟩ dX8_readSleeper_104 rfl (fun r28 σ27 H locs hF hP => ?_)
    exact w_X8_readSleeper_107 X _ _ _ _ _ _ _ _ hF hP hl
  · have hF := hF.2 c29
    refine lv_iconst (v := 0) X.1 X.2.1 dX8_readSleeper_95 (by decide) ?_
    refine lv_goto (tgt := 107) X.1 X.2.1 dX8_readSleeper_96 (by decide) ?_
    exact w_X8_readSleeper_107 X _ _ _ _ _ _ _ _ hF hP hl
set_option maxHeartbeats 2000000 in
theorem w_X8_readSleeper_50 (X : CX p s m args c meth cX8_readSleeper 4 none RX8 D dA ad A) {Q : S → Prop} : ∀ (y0 : Int32) (x1 : Int32) (x2 : Int32) (σ : S) (H : Heap) (locs : List Loc) (ls : Array Slot), P_X8_readSleeper_50 Q y0 x1 x2 σ → PW D dA A s.heap ad (TH σ) H locs → LH ad ls 4 [(0, pX 200), (1, iX x1), (2, iX x2)] → WTv p l e ({ frames := 3, cells := 0, slots := 0, locals := 66 } : Room) s m args below meth c D dA ad A Q H locs (F0 m 50 ls [.int y0]) := by
  intro y0 x1 x2 σ H locs ls hF hP hl
  unfold P_X8_readSleeper_50 at hF
  refine ph_istore_n X hl dX8_readSleeper_50 rfl (by decide) rfl (fun ls hl => ?_)
  refine ph_aload_n (n := 1) X hl dX8_readSleeper_51 rfl rfl ?_
  refine tw_getr 4 204 X hP q1774 dX8_readSleeper_52 ?_
  refine ph_iload_n (n := 3) X hl dX8_readSleeper_55 rfl rfl ?_
  refine ph_iload_n (n := 2) X hl dX8_readSleeper_56 rfl rfl ?_
  obtain ⟨hr31, hF⟩ := hF
  refine tw_ast 4 (n := 14) X hP hr31 (k := x2.toNatClampNeg) rfl dX8_readSleeper_57 hF (fun H locs σ30 hP hF => ?_)
  refine ph_aload_n (n := 1) X hl dX8_readSleeper_58 rfl rfl ?_
  refine tw_getr 5 205 X hP q1775 dX8_readSleeper_59 ?_
  refine lv_iconst (v := 2) X.1 X.2.1 dX8_readSleeper_62 (by decide) ?_
  refine ph_iload_n (n := 3) X hl dX8_readSleeper_63 rfl rfl ?_
  refine lv_imul X.1 X.2.1 dX8_readSleeper_64 ?_
  refine ph_iload_n (n := 0) X hl dX8_readSleeper_65 rfl rfl ?_
  refine lv_if_eq (tgt := 73) X.1 X.2.1 dX8_readSleeper_66 (by decide) (fun c34 => ?_) (fun c34 => ?_)
  · have hF := hF.1 c34
    refine ph_aload_n (n := 1) X hl dX8_readSleeper_73 rfl rfl ?_
    refine lv_iconst (v := 1) X.1 X.2.1 dX8_readSleeper_74 (by decide) ?_
    refine lv_sipush (v := 240) X.1 X.2.1 dX8_readSleeper_75 (by decide) ?_
    refine tw_callVi [iX 1, iX 240] X hP (met_X8_readNumber l D dA ad _ _ hF) (cwV 2 X.2.2.2.2.1 (lw_V q2048 q2050 qs51 q126 q2051) rfl rfl rfl (by decide +kernel) ⟨Nat.le_of_ble_eq_true rfl, Nat.le_of_ble_eq_true rfl⟩) rfl hl (k8 := 2) (csi (csr (cs0 (k := 0)))) (by decide) ⟨Nat.le_refl _, Nat.le_refl _⟩ dX8_readSleeper_78 rfl (fun r33 σ32 H locs hF hP => ?_)
    exact w_X8_readSleeper_81 X _ _ _ _ _ _ _ _ hF hP (lh_sub hl [1, 3, 0] rfl)
  · have hF := hF.2 c34
    refine lv_iconst (v := 0) X.1 X.2.1 dX8_readSleeper_69 (by decide) ?_
    refine lv_goto (tgt := 81) X.1 X.2.1 dX8_readSleeper_70 (by decide) ?_
    exact w_X8_readSleeper_81 X _ _ _ _ _ _ _ _ hF hP (lh_sub hl [1, 3, 0] rfl)
set_option maxHeartbeats 2000000 in
theorem w_X8_readSleeper_17 (X : CX p s m args c meth cX8_readSleeper 4 none RX8 D dA ad A) {Q : S → Prop} : ∀ (x1 : Int32) (σ : S) (H : Heap) (locs : List Loc) (ls : Array Slot), P_X8_readSleeper_17 Q x1 σ → PW D dA A s.heap ad (TH σ) H locs → LH ad ls 4 [(0, pX 200), (1, iX x1)] → WTv p l e ({ frames := 3, cells := 0, slots := 0, locals := 66 } : Room) s m args below meth c D dA ad A Q H locs (F0 m 17 ls []) := by
  intro x1 σ H locs ls hF hP hl
  unfold P_X8_readSleeper_17 at hF
  refine ph_aload_n (n := 0) X hl dX8_readSleeper_17 rfl rfl ?_
  refine tw_geti 21 X hP q1791 dX8_readSleeper_18 ?_
  refine lv_if_eq (tgt := 25) X.1 X.2.1 dX8_readSleeper_21 (by decide) (fun c38 => ?_) (fun c38 => ?_)
  · have hF := hF.1 c38
    refine ph_aload_n (n := 0) X hl dX8_readSleeper_25 rfl rfl ?_
    refine tw_callVv [] X hP (met_X8_stepOn l D dA ad _ _ hF) (cwV 0 X.2.2.2.2.1 (lw_V q2006 q2008 qs45 q126 q2009) rfl rfl rfl (by decide +kernel) ⟨Nat.le_of_ble_eq_true rfl, Nat.le_of_ble_eq_true rfl⟩) rfl hl (k8 := 0) (cs0 (k := 0)) (by decide) ⟨Nat.le_refl _, Nat.le_refl _⟩ dX8_readSleeper_26 rfl (fun σ35 H locs hF hP => ?_)
    refine lv_bipush (v := 7) X.1 X.2.1 dX8_readSleeper_29 (by decide) ?_
    refine ph_aload_n (n := 0) X hl dX8_readSleeper_31 rfl rfl ?_
    refine tw_getr 3 203 X hP q1773 dX8_readSleeper_32 ?_
    refine lv_bipush (v := 8) X.1 X.2.1 dX8_readSleeper_35 (by decide) ?_
    refine tw_ald 3 (n := 16) X hP (vin (by decide)) (k := 8) (by decide) dX8_readSleeper_37 ?_
    refine lv_iadd X.1 X.2.1 dX8_readSleeper_38 ?_
    refine ph_istore_n X hl dX8_readSleeper_39 rfl (by decide) rfl (fun ls hl => ?_)
    refine ph_iload_n (n := 2) X hl dX8_readSleeper_40 rfl rfl ?_
    refine lv_iconst (v := 3) X.1 X.2.1 dX8_readSleeper_41 (by decide) ?_
    refine lv_icmp_ne (tgt := 49) X.1 X.2.1 dX8_readSleeper_42 (by decide) (fun c37 => ?_) (fun c37 => ?_)
    · have hF := hF.1 c37
      refine lv_iconst (v := 0) X.1 X.2.1 dX8_readSleeper_49 (by decide) ?_
      exact w_X8_readSleeper_50 X _ _ _ _ _ _ _ hF hP (lh_sub hl [1, 2, 0] rfl)
    · have hF := hF.2 c37
      refine lv_iconst (v := 1) X.1 X.2.1 dX8_readSleeper_45 (by decide) ?_
      refine lv_goto (tgt := 50) X.1 X.2.1 dX8_readSleeper_46 (by decide) ?_
      exact w_X8_readSleeper_50 X _ _ _ _ _ _ _ hF hP (lh_sub hl [1, 2, 0] rfl)
  · have hF := hF.2 c38
    exact tw_vret X hP hF dX8_readSleeper_24
set_option maxHeartbeats 2000000 in
theorem met_X8_readSleeper (l : Launch) (D : va_G) (dA : Nat → ClassId) (ad : Nat → Nat) (σ : S) (sz : Nat) {a1 : Int32} {Q : S → Prop} (hF : P_X8_readSleeper a1 σ Q) : CTv l yX8_readSleeper cX8_readSleeper 4 ({ frames := 3, cells := 0, slots := 0, locals := 66 } : Room) D dA ad σ sz [pX 200, iX a1] Q := by
  unfold P_X8_readSleeper at hF
  refine ph_enter [pX 200, iX a1] (Qc := fun A => va_Qv (TQv Q) (CB D dA ad A) A) (by decide +kernel) (Nat.le_of_ble_eq_true rfl) ?_
  intro p e s m args below meth c A ls X hP hl hnm
  have hl : LH ad ls 4 [(0, pX 200), (1, iX a1)] := hl
  refine ph_aload_n (n := 0) X hl dX8_readSleeper_0 rfl rfl ?_
  refine tw_getr 3 203 X hP q1773 dX8_readSleeper_1 ?_
  refine lv_bipush (v := 8) X.1 X.2.1 dX8_readSleeper_4 (by decide) ?_
  refine tw_ald 3 (n := 16) X hP (vin (by decide)) (k := 8) (by decide) dX8_readSleeper_6 ?_
  refine lv_bipush (v := 7) X.1 X.2.1 dX8_readSleeper_7 (by decide) ?_
  refine lv_icmp_ne (tgt := 17) X.1 X.2.1 dX8_readSleeper_9 (by decide) (fun c41 => ?_) (fun c41 => ?_)
  · have hF := hF.1 c41
    exact w_X8_readSleeper_17 X _ _ _ _ _ hF hP hl
  · have hF := hF.2 c41
    refine ph_aload_n (n := 0) X hl dX8_readSleeper_12 rfl rfl ?_
    refine lv_iconst (v := 2) X.1 X.2.1 dX8_readSleeper_13 (by decide) ?_
    refine tw_callVv [iX 2] X hP (met_X8_wrong l D dA ad _ _ hF) (cwV 1 X.2.2.2.2.1 (lw_V q2044 q2046 qs50 q126 q2047) rfl rfl rfl (by decide +kernel) ⟨Nat.le_of_ble_eq_true rfl, Nat.le_of_ble_eq_true rfl⟩) rfl hl (k8 := 0) (cs0 (k := 0)) (by decide) ⟨Nat.le_refl _, Nat.le_refl _⟩ dX8_readSleeper_14 rfl (fun σ39 H locs hF hP => ?_)
    exact w_X8_readSleeper_17 X _ _ _ _ _ hF hP hl
def P_X8_readBolster_39 (Q : S → Prop) (x1 : Int32) (σ : S) : Prop := (((σ 0 21) = 0 → (P_X8_stepOn σ (fun σ1 => (∀ σ3, σ3 = up2 σ1 3 13 ((σ1 3 13) ||| (1 <<< ((x1 : Int32) &&& 31))) → (Q σ3))))) ∧ (¬ (σ 0 21) = 0 → (Q σ)))
def P_X8_readBolster  (σ : S) (Q : S → Prop) : Prop := (P_X8_stepOn σ (fun σ5 => (P_X8_numberNow 1 6 σ5 (fun r8 σ7 => ((¬ (σ7 0 21) = 0 → (P_X8_readBolster_39 Q r8 σ7)) ∧ ((σ7 0 21) = 0 → ((¬ (((σ7 3 13) >>> ((r8 : Int32) &&& 31)) &&& 1) = 1 → (P_X8_readBolster_39 Q r8 σ7)) ∧ ((((σ7 3 13) >>> ((r8 : Int32) &&& 31)) &&& 1) = 1 → (P_X8_wrong 5 σ7 (fun σ9 => (P_X8_readBolster_39 Q r8 σ9)))))))))))
set_option maxHeartbeats 2000000 in
theorem w_X8_readBolster_39 (X : CX p s m args c meth cX8_readBolster 2 none RX8 D dA ad A) {Q : S → Prop} : ∀ (x1 : Int32) (σ : S) (H : Heap) (locs : List Loc) (ls : Array Slot), P_X8_readBolster_39 Q x1 σ → PW D dA A s.heap ad (TH σ) H locs → LH ad ls 2 [(0, pX 200), (1, iX x1)] → WTv p l e ({ frames := 2, cells := 0, slots := 0, locals := 43 } : Room) s m args below meth c D dA ad A Q H locs (F0 m 39 ls []) := by
  intro x1 σ H locs ls hF hP hl
  unfold P_X8_readBolster_39 at hF
  refine ph_aload_n (n := 0) X hl dX8_readBolster_39 rfl rfl ?_
  refine tw_geti 21 X hP q1791 dX8_readBolster_40 ?_
  refine lv_if_eq (tgt := 47) X.1 X.2.1 dX8_readBolster_43 (by decide) (fun c4 => ?_) (fun c4 => ?_)
  · have hF := hF.1 c4
    refine ph_aload_n (n := 0) X hl dX8_readBolster_47 rfl rfl ?_
    refine tw_callVv [] X hP (met_X8_stepOn l D dA ad _ _ hF) (cwV 0 X.2.2.2.2.1 (lw_V q2006 q2008 qs45 q126 q2009) rfl rfl rfl (by decide +kernel) ⟨Nat.le_of_ble_eq_true rfl, Nat.le_of_ble_eq_true rfl⟩) rfl hl (k8 := 0) (cs0 (k := 0)) (by decide) ⟨Nat.le_refl _, Nat.le_refl _⟩ dX8_readBolster_48 rfl (fun σ1 H locs hF hP => ?_)
    refine ph_aload_n (n := 0) X hl dX8_readBolster_51 rfl rfl ?_
    refine tw_getr 3 203 X hP q1773 dX8_readBolster_52 ?_
    refine lv_bipush (v := 13) X.1 X.2.1 dX8_readBolster_55 (by decide) ?_
    refine ph_dup2_ir X dX8_readBolster_57 ?_
    refine tw_ald 3 (n := 16) X hP (vin (by decide)) (k := 13) (by decide) dX8_readBolster_58 ?_
    refine lv_iconst (v := 1) X.1 X.2.1 dX8_readBolster_59 (by decide) ?_
    refine ph_iload_n (n := 1) X hl dX8_readBolster_60 rfl rfl ?_
    refine lv_ishl X.1 X.2.1 dX8_readBolster_61 ?_
    refine lv_ior X.1 X.2.1 dX8_readBolster_62 ?_
    refine tw_ast 3 (n := 16) X hP (vin (by decide)) (k := 13) (by decide) dX8_readBolster_63 hF (fun H locs σ3 hP hF => ?_)
    exact tw_vret X hP hF dX8_readBolster_64
  · have hF := hF.2 c4
    exact tw_vret X hP hF dX8_readBolster_46
set_option maxHeartbeats 2000000 in
theorem met_X8_readBolster (l : Launch) (D : va_G) (dA : Nat → ClassId) (ad : Nat → Nat) (σ : S) (sz : Nat) {Q : S → Prop} (hF : P_X8_readBolster  σ Q) : CTv l yX8_readBolster cX8_readBolster 2 ({ frames := 2, cells := 0, slots := 0, locals := 43 } : Room) D dA ad σ sz [pX 200] Q := by
  unfold P_X8_readBolster at hF
  refine ph_enter [pX 200] (Qc := fun A => va_Qv (TQv Q) (CB D dA ad A) A) (by decide +kernel) (Nat.le_of_ble_eq_true rfl) ?_
  intro p e s m args below meth c A ls X hP hl hnm
  have hl : LH ad ls 2 [(0, pX 200)] := hl
  refine ph_aload_n (n := 0) X hl dX8_readBolster_0 rfl rfl ?_
  refine tw_callVv [] X hP (met_X8_stepOn l D dA ad _ _ hF) (cwV 0 X.2.2.2.2.1 (lw_V q2006 q2008 qs45 q126 q2009) rfl rfl rfl (by decide +kernel) ⟨Nat.le_of_ble_eq_true rfl, Nat.le_of_ble_eq_true rfl⟩) rfl hl (k8 := 0) (cs0 (k := 0)) (by decide) ⟨Nat.le_refl _, Nat.le_refl _⟩ dX8_readBolster_1 rfl (fun σ5 H locs hF hP => ?_)
  refine ph_aload_n (n := 0) X hl dX8_readBolster_4 rfl rfl ?_
  refine lv_iconst (v := 1) X.1 X.2.1 dX8_readBolster_5 (by decide) ?_
  refine lv_bipush (v := 6) X.1 X.2.1 dX8_readBolster_6 (by decide) ?_
  refine tw_callVi [iX 1, iX 6] X hP (met_X8_numberNow l D dA ad _ _ hF) (cwV 2 X.2.2.2.2.1 (lw_V q2052 q2054 qs52 q126 q2055) rfl rfl rfl (by decide +kernel) ⟨Nat.le_of_ble_eq_true rfl, Nat.le_of_ble_eq_true rfl⟩) rfl hl (k8 := 0) (cs0 (k := 0)) (by decide) ⟨Nat.le_refl _, Nat.le_refl _⟩ dX8_readBolster_8 rfl (fun r8 σ7 H locs hF hP => ?_)
  refine ph_istore_n X hl dX8_readBolster_11 rfl (by decide) rfl (fun ls hl => ?_)
  refine ph_aload_n (n := 1) X hl dX8_readBolster_12 rfl rfl ?_
  refine tw_geti 21 X hP q1791 dX8_readBolster_13 ?_
  refine lv_if_ne (tgt := 39) X.1 X.2.1 dX8_readBolster_16 (by decide) (fun c12 => ?_) (fun c12 => ?_)
  · have hF := hF.1 c12
    exact w_X8_readBolster_39 X _ _ _ _ _ hF hP (lh_sub hl [1, 0] rfl)
  · have hF := hF.2 c12
    refine ph_aload_n (n := 1) X hl dX8_readBolster_19 rfl rfl ?_
    refine tw_getr 3 203 X hP q1773 dX8_readBolster_20 ?_
    refine lv_bipush (v := 13) X.1 X.2.1 dX8_readBolster_23 (by decide) ?_
    refine tw_ald 3 (n := 16) X hP (vin (by decide)) (k := 13) (by decide) dX8_readBolster_25 ?_
    refine ph_iload_n (n := 0) X hl dX8_readBolster_26 rfl rfl ?_
    refine lv_ishr X.1 X.2.1 dX8_readBolster_27 ?_
    refine lv_iconst (v := 1) X.1 X.2.1 dX8_readBolster_28 (by decide) ?_
    refine lv_iand X.1 X.2.1 dX8_readBolster_29 ?_
    refine lv_iconst (v := 1) X.1 X.2.1 dX8_readBolster_30 (by decide) ?_
    refine lv_icmp_ne (tgt := 39) X.1 X.2.1 dX8_readBolster_31 (by decide) (fun c11 => ?_) (fun c11 => ?_)
    · have hF := hF.1 c11
      exact w_X8_readBolster_39 X _ _ _ _ _ hF hP (lh_sub hl [1, 0] rfl)
    · have hF := hF.2 c11
      refine ph_aload_n (n := 1) X hl dX8_readBolster_34 rfl rfl ?_
      refine lv_iconst (v := 5) X.1 X.2.1 dX8_readBolster_35 (by decide) ?_
      refine tw_callVv [iX 5] X hP (met_X8_wrong l D dA ad _ _ hF) (cwV 1 X.2.2.2.2.1 (lw_V q2044 q2046 qs50 q126 q2047) rfl rfl rfl (by decide +kernel) ⟨Nat.le_of_ble_eq_true rfl, Nat.le_of_ble_eq_true rfl⟩) rfl hl (k8 := 0) (cs0 (k := 0)) (by decide) ⟨Nat.le_refl _, Nat.le_refl _⟩ dX8_readBolster_36 rfl (fun σ9 H locs hF hP => ?_)
      exact w_X8_readBolster_39 X _ _ _ _ _ hF hP (lh_sub hl [1, 0] rfl)
def P_X8_readNever_84 (Q : S → Prop) (x1 : Int32) (x2 : Int32) (σ : S) : Prop := (((σ 0 21) = 0 → (P_X8_stepOn σ (fun σ1 => (vp_in (7 + x1) 14 ∧ (vp_in (7 + x1) 14 ∧ (∀ σ4, σ4 = up2 σ1 10 ((7 + x1).toNatClampNeg) ((σ1 10 ((7 + x1).toNatClampNeg)) ||| (1 <<< ((x2 : Int32) &&& 31))) → (vp_in (7 + x2) 14 ∧ (vp_in (7 + x2) 14 ∧ (∀ σ7, σ7 = up2 σ4 10 ((7 + x2).toNatClampNeg) ((σ4 10 ((7 + x2).toNatClampNeg)) ||| (1 <<< ((x1 : Int32) &&& 31))) → (∀ σ9, σ9 = up2 σ7 3 14 ((σ7 3 14) + 1) → (Q σ9))))))))))) ∧ (¬ (σ 0 21) = 0 → (Q σ)))
def P_X8_readNever_79 (Q : S → Prop) (x1 : Int32) (x2 : Int32) (σ : S) : Prop := (P_X8_wrong 4 σ (fun σ11 => (P_X8_readNever_84 Q x1 x2 σ11)))
def P_X8_readNever_45 (Q : S → Prop) (x1 : Int32) (σ : S) : Prop := (P_X8_sleeperNow σ (fun r14 σ13 => ((¬ (σ13 0 21) = 0 → (P_X8_readNever_84 Q x1 r14 σ13)) ∧ ((σ13 0 21) = 0 → ((x1 = r14 → (P_X8_readNever_79 Q x1 r14 σ13)) ∧ (¬ x1 = r14 → (vp_in (7 + x1) 14 ∧ ((¬ (((σ13 10 ((7 + x1).toNatClampNeg)) >>> ((r14 : Int32) &&& 31)) &&& 1) = 1 → (P_X8_readNever_84 Q x1 r14 σ13)) ∧ ((((σ13 10 ((7 + x1).toNatClampNeg)) >>> ((r14 : Int32) &&& 31)) &&& 1) = 1 → (P_X8_readNever_79 Q x1 r14 σ13))))))))))
def P_X8_readNever_17 (Q : S → Prop)  (σ : S) : Prop := (((σ 0 21) = 0 → (P_X8_stepOn σ (fun σ19 => (P_X8_sleeperNow σ19 (fun r22 σ21 => ((¬ (σ21 0 21) = 0 → (P_X8_readNever_45 Q r22 σ21)) ∧ ((σ21 0 21) = 0 → (P_X8_stepOn σ21 (fun σ23 => (P_X8_readNever_45 Q r22 σ23)))))))))) ∧ (¬ (σ 0 21) = 0 → (Q σ)))
def P_X8_readNever  (σ : S) (Q : S → Prop) : Prop := ((¬ (σ 3 14) = 6 → (P_X8_readNever_17 Q σ)) ∧ ((σ 3 14) = 6 → (P_X8_wrong 2 σ (fun σ27 => (P_X8_readNever_17 Q σ27)))))
set_option maxHeartbeats 2000000 in
theorem w_X8_readNever_84 (X : CX p s m args c meth cX8_readNever 3 none RX8 D dA ad A) {Q : S → Prop} : ∀ (x1 : Int32) (x2 : Int32) (σ : S) (H : Heap) (locs : List Loc) (ls : Array Slot), P_X8_readNever_84 Q x1 x2 σ → PW D dA A s.heap ad (TH σ) H locs → LH ad ls 3 [(0, pX 200), (1, iX x1), (2, iX x2)] → WTv p l e ({ frames := 3, cells := 0, slots := 0, locals := 64 } : Room) s m args below meth c D dA ad A Q H locs (F0 m 84 ls []) := by
  intro x1 x2 σ H locs ls hF hP hl
  unfold P_X8_readNever_84 at hF
  refine ph_aload_n (n := 0) X hl dX8_readNever_84 rfl rfl ?_
  refine tw_geti 21 X hP q1791 dX8_readNever_85 ?_
  refine lv_if_eq (tgt := 92) X.1 X.2.1 dX8_readNever_88 (by decide) (fun c10 => ?_) (fun c10 => ?_)
  · have hF := hF.1 c10
    refine ph_aload_n (n := 0) X hl dX8_readNever_92 rfl rfl ?_
    refine tw_callVv [] X hP (met_X8_stepOn l D dA ad _ _ hF) (cwV 0 X.2.2.2.2.1 (lw_V q2006 q2008 qs45 q126 q2009) rfl rfl rfl (by decide +kernel) ⟨Nat.le_of_ble_eq_true rfl, Nat.le_of_ble_eq_true rfl⟩) rfl hl (k8 := 0) (cs0 (k := 0)) (by decide) ⟨Nat.le_refl _, Nat.le_refl _⟩ dX8_readNever_93 rfl (fun σ1 H locs hF hP => ?_)
    refine ph_aload_n (n := 0) X hl dX8_readNever_96 rfl rfl ?_
    refine tw_getr 10 210 X hP q1780 dX8_readNever_97 ?_
    refine lv_bipush (v := 7) X.1 X.2.1 dX8_readNever_100 (by decide) ?_
    refine ph_iload_n (n := 1) X hl dX8_readNever_102 rfl rfl ?_
    refine lv_iadd X.1 X.2.1 dX8_readNever_103 ?_
    refine ph_dup2_ir X dX8_readNever_104 ?_
    obtain ⟨hr3, hF⟩ := hF
    refine tw_ald 10 (n := 14) X hP hr3 (k := (7 + x1).toNatClampNeg) rfl dX8_readNever_105 ?_
    refine lv_iconst (v := 1) X.1 X.2.1 dX8_readNever_106 (by decide) ?_
    refine ph_iload_n (n := 2) X hl dX8_readNever_107 rfl rfl ?_
    refine lv_ishl X.1 X.2.1 dX8_readNever_108 ?_
    refine lv_ior X.1 X.2.1 dX8_readNever_109 ?_
    obtain ⟨hr5, hF⟩ := hF
    refine tw_ast 10 (n := 14) X hP hr5 (k := (7 + x1).toNatClampNeg) rfl dX8_readNever_110 hF (fun H locs σ4 hP hF => ?_)
    refine ph_aload_n (n := 0) X hl dX8_readNever_111 rfl rfl ?_
    refine tw_getr 10 210 X hP q1780 dX8_readNever_112 ?_
    refine lv_bipush (v := 7) X.1 X.2.1 dX8_readNever_115 (by decide) ?_
    refine ph_iload_n (n := 2) X hl dX8_readNever_117 rfl rfl ?_
    refine lv_iadd X.1 X.2.1 dX8_readNever_118 ?_
    refine ph_dup2_ir X dX8_readNever_119 ?_
    obtain ⟨hr6, hF⟩ := hF
    refine tw_ald 10 (n := 14) X hP hr6 (k := (7 + x2).toNatClampNeg) rfl dX8_readNever_120 ?_
    refine lv_iconst (v := 1) X.1 X.2.1 dX8_readNever_121 (by decide) ?_
    refine ph_iload_n (n := 1) X hl dX8_readNever_122 rfl rfl ?_
    refine lv_ishl X.1 X.2.1 dX8_readNever_123 ?_
    refine lv_ior X.1 X.2.1 dX8_readNever_124 ?_
    obtain ⟨hr8, hF⟩ := hF
    refine tw_ast 10 (n := 14) X hP hr8 (k := (7 + x2).toNatClampNeg) rfl dX8_readNever_125 hF (fun H locs σ7 hP hF => ?_)
    refine ph_aload_n (n := 0) X hl dX8_readNever_126 rfl rfl ?_
    refine tw_getr 3 203 X hP q1773 dX8_readNever_127 ?_
    refine lv_bipush (v := 14) X.1 X.2.1 dX8_readNever_130 (by decide) ?_
    refine ph_dup2_ir X dX8_readNever_132 ?_
    refine tw_ald 3 (n := 16) X hP (vin (by decide)) (k := 14) (by decide) dX8_readNever_133 ?_
    refine lv_iconst (v := 1) X.1 X.2.1 dX8_readNever_134 (by decide) ?_
    refine lv_iadd X.1 X.2.1 dX8_readNever_135 ?_
    refine tw_ast 3 (n := 16) X hP (vin (by decide)) (k := 14) (by decide) dX8_readNever_136 hF (fun H locs σ9 hP hF => ?_)
    exact tw_vret X hP hF dX8_readNever_137
  · have hF := hF.2 c10
    exact tw_vret X hP hF dX8_readNever_91
set_option maxHeartbeats 2000000 in
theorem w_X8_readNever_79 (X : CX p s m args c meth cX8_readNever 3 none RX8 D dA ad A) {Q : S → Prop} : ∀ (x1 : Int32) (x2 : Int32) (σ : S) (H : Heap) (locs : List Loc) (ls : Array Slot), P_X8_readNever_79 Q x1 x2 σ → PW D dA A s.heap ad (TH σ) H locs → LH ad ls 3 [(0, pX 200), (1, iX x1), (2, iX x2)] → WTv p l e ({ frames := 3, cells := 0, slots := 0, locals := 64 } : Room) s m args below meth c D dA ad A Q H locs (F0 m 79 ls []) := by
  intro x1 x2 σ H locs ls hF hP hl
  unfold P_X8_readNever_79 at hF
  refine ph_aload_n (n := 0) X hl dX8_readNever_79 rfl rfl ?_
  refine lv_iconst (v := 4) X.1 X.2.1 dX8_readNever_80 (by decide) ?_
  refine tw_callVv [iX 4] X hP (met_X8_wrong l D dA ad _ _ hF) (cwV 1 X.2.2.2.2.1 (lw_V q2044 q2046 qs50 q126 q2047) rfl rfl rfl (by decide +kernel) ⟨Nat.le_of_ble_eq_true rfl, Nat.le_of_ble_eq_true rfl⟩) rfl hl (k8 := 0) (cs0 (k := 0)) (by decide) ⟨Nat.le_refl _, Nat.le_refl _⟩ dX8_readNever_81 rfl (fun σ11 H locs hF hP => ?_)
  exact w_X8_readNever_84 X _ _ _ _ _ _ hF hP hl
set_option maxHeartbeats 2000000 in
theorem w_X8_readNever_45 (X : CX p s m args c meth cX8_readNever 3 none RX8 D dA ad A) {Q : S → Prop} : ∀ (x1 : Int32) (σ : S) (H : Heap) (locs : List Loc) (ls : Array Slot), P_X8_readNever_45 Q x1 σ → PW D dA A s.heap ad (TH σ) H locs → LH ad ls 3 [(0, pX 200), (1, iX x1)] → WTv p l e ({ frames := 3, cells := 0, slots := 0, locals := 64 } : Room) s m args below meth c D dA ad A Q H locs (F0 m 45 ls []) := by
  intro x1 σ H locs ls hF hP hl
  unfold P_X8_readNever_45 at hF
  refine ph_aload_n (n := 0) X hl dX8_readNever_45 rfl rfl ?_
  refine tw_callVi [] X hP (met_X8_sleeperNow l D dA ad _ _ hF) (cwV 0 X.2.2.2.2.1 (lw_V q2109 q2111 qs65 q126 q2112) rfl rfl rfl (by decide +kernel) ⟨Nat.le_of_ble_eq_true rfl, Nat.le_of_ble_eq_true rfl⟩) rfl hl (k8 := 0) (cs0 (k := 0)) (by decide) ⟨Nat.le_refl _, Nat.le_refl _⟩ dX8_readNever_46 rfl (fun r14 σ13 H locs hF hP => ?_)
  refine ph_istore_n X hl dX8_readNever_49 rfl (by decide) rfl (fun ls hl => ?_)
  refine ph_aload_n (n := 1) X hl dX8_readNever_50 rfl rfl ?_
  refine tw_geti 21 X hP q1791 dX8_readNever_51 ?_
  refine lv_if_ne (tgt := 84) X.1 X.2.1 dX8_readNever_54 (by decide) (fun c18 => ?_) (fun c18 => ?_)
  · have hF := hF.1 c18
    exact w_X8_readNever_84 X _ _ _ _ _ _ hF hP (lh_sub hl [1, 2, 0] rfl)
  · have hF := hF.2 c18
    refine ph_iload_n (n := 2) X hl dX8_readNever_57 rfl rfl ?_
    refine ph_iload_n (n := 0) X hl dX8_readNever_58 rfl rfl ?_
    refine lv_icmp_eq (tgt := 79) X.1 X.2.1 dX8_readNever_59 (by decide) (fun c17 => ?_) (fun c17 => ?_)
    · have hF := hF.1 c17
      exact w_X8_readNever_79 X _ _ _ _ _ _ hF hP (lh_sub hl [1, 2, 0] rfl)
    · have hF := hF.2 c17
      refine ph_aload_n (n := 1) X hl dX8_readNever_62 rfl rfl ?_
      refine tw_getr 10 210 X hP q1780 dX8_readNever_63 ?_
      refine lv_bipush (v := 7) X.1 X.2.1 dX8_readNever_66 (by decide) ?_
      refine ph_iload_n (n := 2) X hl dX8_readNever_68 rfl rfl ?_
      refine lv_iadd X.1 X.2.1 dX8_readNever_69 ?_
      obtain ⟨hr15, hF⟩ := hF
      refine tw_ald 10 (n := 14) X hP hr15 (k := (7 + x1).toNatClampNeg) rfl dX8_readNever_70 ?_
      refine ph_iload_n (n := 0) X hl dX8_readNever_71 rfl rfl ?_
      refine lv_ishr X.1 X.2.1 dX8_readNever_72 ?_
      refine lv_iconst (v := 1) X.1 X.2.1 dX8_readNever_73 (by decide) ?_
      refine lv_iand X.1 X.2.1 dX8_readNever_74 ?_
      refine lv_iconst (v := 1) X.1 X.2.1 dX8_readNever_75 (by decide) ?_
      refine lv_icmp_ne (tgt := 84) X.1 X.2.1 dX8_readNever_76 (by decide) (fun c16 => ?_) (fun c16 => ?_)
      · have hF := hF.1 c16
        exact w_X8_readNever_84 X _ _ _ _ _ _ hF hP (lh_sub hl [1, 2, 0] rfl)
      · have hF := hF.2 c16
        exact w_X8_readNever_79 X _ _ _ _ _ _ hF hP (lh_sub hl [1, 2, 0] rfl)
set_option maxHeartbeats 2000000 in
theorem w_X8_readNever_17 (X : CX p s m args c meth cX8_readNever 3 none RX8 D dA ad A) {Q : S → Prop} : ∀  (σ : S) (H : Heap) (locs : List Loc) (ls : Array Slot), P_X8_readNever_17 Q  σ → PW D dA A s.heap ad (TH σ) H locs → LH ad ls 3 [(0, pX 200)] → WTv p l e ({ frames := 3, cells := 0, slots := 0, locals := 64 } : Room) s m args below meth c D dA ad A Q H locs (F0 m 17 ls []) := by
  intro  σ H locs ls hF hP hl
  unfold P_X8_readNever_17 at hF
  refine ph_aload_n (n := 0) X hl dX8_readNever_17 rfl rfl ?_
  refine tw_geti 21 X hP q1791 dX8_readNever_18 ?_
  refine lv_if_eq (tgt := 25) X.1 X.2.1 dX8_readNever_21 (by decide) (fun c26 => ?_) (fun c26 => ?_)
  · have hF := hF.1 c26
    refine ph_aload_n (n := 0) X hl dX8_readNever_25 rfl rfl ?_
    refine tw_callVv [] X hP (met_X8_stepOn l D dA ad _ _ hF) (cwV 0 X.2.2.2.2.1 (lw_V q2006 q2008 qs45 q126 q2009) rfl rfl rfl (by decide +kernel) ⟨Nat.le_of_ble_eq_true rfl, Nat.le_of_ble_eq_true rfl⟩) rfl hl (k8 := 0) (cs0 (k := 0)) (by decide) ⟨Nat.le_refl _, Nat.le_refl _⟩ dX8_readNever_26 rfl (fun σ19 H locs hF hP => ?_)
    refine ph_aload_n (n := 0) X hl dX8_readNever_29 rfl rfl ?_
    refine tw_callVi [] X hP (met_X8_sleeperNow l D dA ad _ _ hF) (cwV 0 X.2.2.2.2.1 (lw_V q2109 q2111 qs65 q126 q2112) rfl rfl rfl (by decide +kernel) ⟨Nat.le_of_ble_eq_true rfl, Nat.le_of_ble_eq_true rfl⟩) rfl hl (k8 := 0) (cs0 (k := 0)) (by decide) ⟨Nat.le_refl _, Nat.le_refl _⟩ dX8_readNever_30 rfl (fun r22 σ21 H locs hF hP => ?_)
    refine ph_istore_n X hl dX8_readNever_33 rfl (by decide) rfl (fun ls hl => ?_)
    refine ph_aload_n (n := 1) X hl dX8_readNever_34 rfl rfl ?_
    refine tw_geti 21 X hP q1791 dX8_readNever_35 ?_
    refine lv_if_ne (tgt := 45) X.1 X.2.1 dX8_readNever_38 (by decide) (fun c25 => ?_) (fun c25 => ?_)
    · have hF := hF.1 c25
      exact w_X8_readNever_45 X _ _ _ _ _ hF hP (lh_sub hl [1, 0] rfl)
    · have hF := hF.2 c25
      refine ph_aload_n (n := 1) X hl dX8_readNever_41 rfl rfl ?_
      refine tw_callVv [] X hP (met_X8_stepOn l D dA ad _ _ hF) (cwV 0 X.2.2.2.2.1 (lw_V q2006 q2008 qs45 q126 q2009) rfl rfl rfl (by decide +kernel) ⟨Nat.le_of_ble_eq_true rfl, Nat.le_of_ble_eq_true rfl⟩) rfl hl (k8 := 0) (cs0 (k := 0)) (by decide) ⟨Nat.le_refl _, Nat.le_refl _⟩ dX8_readNever_42 rfl (fun σ23 H locs hF hP => ?_)
      exact w_X8_readNever_45 X _ _ _ _ _ hF hP (lh_sub hl [1, 0] rfl)
  · have hF := hF.2 c26
    exact tw_vret X hP hF dX8_readNever_24
set_option maxHeartbeats 2000000 in
theorem met_X8_readNever (l : Launch) (D : va_G) (dA : Nat → ClassId) (ad : Nat → Nat) (σ : S) (sz : Nat) {Q : S → Prop} (hF : P_X8_readNever  σ Q) : CTv l yX8_readNever cX8_readNever 3 ({ frames := 3, cells := 0, slots := 0, locals := 64 } : Room) D dA ad σ sz [pX 200] Q := by
  unfold P_X8_readNever at hF
  refine ph_enter [pX 200] (Qc := fun A => va_Qv (TQv Q) (CB D dA ad A) A) (by decide +kernel) (Nat.le_of_ble_eq_true rfl) ?_
  intro p e s m args below meth c A ls X hP hl hnm
  have hl : LH ad ls 3 [(0, pX 200)] := hl
  refine ph_aload_n (n := 0) X hl dX8_readNever_0 rfl rfl ?_
  refine tw_getr 3 203 X hP q1773 dX8_readNever_1 ?_
  refine lv_bipush (v := 14) X.1 X.2.1 dX8_readNever_4 (by decide) ?_
  refine tw_ald 3 (n := 16) X hP (vin (by decide)) (k := 14) (by decide) dX8_readNever_6 ?_
  refine lv_bipush (v := 6) X.1 X.2.1 dX8_readNever_7 (by decide) ?_
  refine lv_icmp_ne (tgt := 17) X.1 X.2.1 dX8_readNever_9 (by decide) (fun c29 => ?_) (fun c29 => ?_)
  · have hF := hF.1 c29
    exact w_X8_readNever_17 X _ _ _ _ hF hP hl
  · have hF := hF.2 c29
    refine ph_aload_n (n := 0) X hl dX8_readNever_12 rfl rfl ?_
    refine lv_iconst (v := 2) X.1 X.2.1 dX8_readNever_13 (by decide) ?_
    refine tw_callVv [iX 2] X hP (met_X8_wrong l D dA ad _ _ hF) (cwV 1 X.2.2.2.2.1 (lw_V q2044 q2046 qs50 q126 q2047) rfl rfl rfl (by decide +kernel) ⟨Nat.le_of_ble_eq_true rfl, Nat.le_of_ble_eq_true rfl⟩) rfl hl (k8 := 0) (cs0 (k := 0)) (by decide) ⟨Nat.le_refl _, Nat.le_refl _⟩ dX8_readNever_14 rfl (fun σ27 H locs hF hP => ?_)
    exact w_X8_readNever_17 X _ _ _ _ hF hP hl
def P_X8_takeHalf_2 (Q : S → Prop) : Nat → Nat → Int32 → S → Prop
  | 0, _, _, _ => False
  | n + 1, x0, x1, σ => (tK x0 = 100 ∧ ((((nI (tL x0)) / 2) ≤ x1 → (Q σ)) ∧ (¬ ((nI (tL x0)) / 2) ≤ x1 → (tK x0 = 100 ∧ ((tK x0 = 100 ∧ vp_in (((nI (tL x0)) / 2) + x1) (tL x0)) ∧ ((tK x0 = 100 ∧ vp_in x1 (tL x0)) ∧ (∀ σ4, σ4 = up2 σ (x0 - 200) x1.toNatClampNeg (σ (x0 - 200) ((((nI (tL x0)) / 2) + x1).toNatClampNeg)) → (P_X8_takeHalf_2 Q  n x0 (x1 + 1) σ4))))))))
def P_X8_takeHalf (a0 : Nat) (σ : S) (Q : S → Prop) : Prop := (∃ n9, P_X8_takeHalf_2 Q n9 a0 0 σ)
set_option maxHeartbeats 2000000 in
theorem w_X8_takeHalf_2 (X : CX p s m args c meth cX8_takeHalf 2 none RX8 D dA ad A) {Q : S → Prop} : ∀ (n : Nat) (x0 : Nat) (x1 : Int32) (σ : S) (H : Heap) (locs : List Loc) (ls : Array Slot), P_X8_takeHalf_2 Q n x0 x1 σ → PW D dA A s.heap ad (TH σ) H locs → LH ad ls 2 [(0, pX x0), (1, iX x1)] → WTv p l e ({ frames := 0, cells := 0, slots := 0, locals := 0 } : Room) s m args below meth c D dA ad A Q H locs (F0 m 2 ls []) := by
  intro n
  induction n with
  | zero =>
    intro x0 x1 σ H locs ls hF
    exact hF.elim
  | succ n ih =>
    intro x0 x1 σ H locs ls hF hP hl
    rw [P_X8_takeHalf_2] at hF
    refine ph_iload_n (n := 1) X hl dX8_takeHalf_2 rfl rfl ?_
    refine ph_aload_n (n := 0) X hl dX8_takeHalf_3 rfl rfl ?_
    obtain ⟨hr1, hF⟩ := hF
    refine tw_alen X hP dX8_takeHalf_4 hr1 rfl (x := nI (tL x0)) rfl ?_
    refine lv_iconst (v := 2) X.1 X.2.1 dX8_takeHalf_5 (by decide) ?_
    refine lv_idiv X.1 X.2.1 dX8_takeHalf_6 (by decide) ?_
    refine lv_icmp_ge (tgt := 27) X.1 X.2.1 dX8_takeHalf_7 (by decide) (fun c6 => ?_) (fun c6 => ?_)
    · have hF := hF.1 c6
      exact tw_vret X hP hF dX8_takeHalf_27
    · have hF := hF.2 c6
      refine ph_aload_n (n := 0) X hl dX8_takeHalf_10 rfl rfl ?_
      refine ph_iload_n (n := 1) X hl dX8_takeHalf_11 rfl rfl ?_
      refine ph_aload_n (n := 0) X hl dX8_takeHalf_12 rfl rfl ?_
      refine ph_aload_n (n := 0) X hl dX8_takeHalf_13 rfl rfl ?_
      obtain ⟨hr2, hF⟩ := hF
      refine tw_alen X hP dX8_takeHalf_14 hr2 rfl (x := nI (tL x0)) rfl ?_
      refine lv_iconst (v := 2) X.1 X.2.1 dX8_takeHalf_15 (by decide) ?_
      refine lv_idiv X.1 X.2.1 dX8_takeHalf_16 (by decide) ?_
      refine ph_iload_n (n := 1) X hl dX8_takeHalf_17 rfl rfl ?_
      refine lv_iadd X.1 X.2.1 dX8_takeHalf_18 ?_
      obtain ⟨hr3, hF⟩ := hF
      refine tw_aldd X hP hr3.1 hr3.2 (k := (((nI (tL x0)) / 2) + x1).toNatClampNeg) rfl dX8_takeHalf_19 ?_
      obtain ⟨hr5, hF⟩ := hF
      refine tw_astd X hP hr5.1 hr5.2 (k := x1.toNatClampNeg) rfl dX8_takeHalf_20 hF (fun H locs σ4 hP hF => ?_)
      refine ph_iinc (v := x1 + 1) (k := 1) X hl dX8_takeHalf_21 rfl rfl (by decide) rfl (fun ls hl => ?_)
      refine lv_goto (tgt := 2) X.1 X.2.1 dX8_takeHalf_24 (by decide) ?_
      exact ih _ _ _ _ _ _ hF hP (lh_sub hl [1, 0] rfl)
set_option maxHeartbeats 2000000 in
theorem met_X8_takeHalf (l : Launch) (D : va_G) (dA : Nat → ClassId) (ad : Nat → Nat) (σ : S) (sz : Nat) {a0 : Nat} {Q : S → Prop} (hF : P_X8_takeHalf a0 σ Q) : CTv l yX8_takeHalf cX8_takeHalf 2 ({ frames := 0, cells := 0, slots := 0, locals := 0 } : Room) D dA ad σ sz [pX a0] Q := by
  unfold P_X8_takeHalf at hF
  refine ph_enter [pX a0] (Qc := fun A => va_Qv (TQv Q) (CB D dA ad A) A) (by decide +kernel) (Nat.le_of_ble_eq_true rfl) ?_
  intro p e s m args below meth c A ls X hP hl hnm
  have hl : LH ad ls 2 [(0, pX a0)] := hl
  refine lv_iconst (v := 0) X.1 X.2.1 dX8_takeHalf_0 (by decide) ?_
  refine ph_istore_n X hl dX8_takeHalf_1 rfl (by decide) rfl (fun ls hl => ?_)
  obtain ⟨n9, hF⟩ := hF
  exact w_X8_takeHalf_2 X n9 _ _ _ _ _ _ hF hP (lh_sub hl [1, 0] rfl)
def P_X8_takeOver_65 (Q : S → Prop) : Nat → Int32 → S → Prop
  | 0, _, _ => False
  | n + 1, x1, σ => ((7 ≤ x1 → (∀ σ1, σ1 = up2 σ 0 26 0 → (∀ σ2, σ2 = up2 σ1 0 27 (-1) → (∀ σ3, σ3 = up2 σ2 0 28 0 → (∀ σ4, σ4 = up2 σ3 0 29 (σ3 3 5) → (∀ σ5, σ5 = up2 σ4 0 30 0 → (∀ σ6, σ6 = up2 σ5 0 31 0 → (∀ σ7, σ7 = up2 σ6 0 58 0 → (∀ σ8, σ8 = up2 σ7 0 64 0 → (Q σ8)))))))))) ∧ (¬ 7 ≤ x1 → (vp_in x1 7 ∧ (∀ σ9, σ9 = up2 σ 14 x1.toNatClampNeg x1 → (P_X8_takeOver_65 Q  n (x1 + 1) σ9)))))
def P_X8_takeOver  (σ : S) (Q : S → Prop) : Prop := (P_X8_takeHalf 203 σ (fun σ12 => (P_X8_takeHalf 204 σ12 (fun σ14 => (P_X8_takeHalf 205 σ14 (fun σ16 => (P_X8_takeHalf 206 σ16 (fun σ18 => (P_X8_takeHalf 207 σ18 (fun σ20 => (P_X8_takeHalf 208 σ20 (fun σ22 => (P_X8_takeHalf 209 σ22 (fun σ24 => (P_X8_takeHalf 210 σ24 (fun σ26 => (P_X8_takeHalf 211 σ26 (fun σ28 => (∃ n9, P_X8_takeOver_65 Q n9 0 σ28)))))))))))))))))))
set_option maxHeartbeats 2000000 in
theorem w_X8_takeOver_65 (X : CX p s m args c meth cX8_takeOver 2 none RX8 D dA ad A) {Q : S → Prop} : ∀ (n : Nat) (x1 : Int32) (σ : S) (H : Heap) (locs : List Loc) (ls : Array Slot), P_X8_takeOver_65 Q n x1 σ → PW D dA A s.heap ad (TH σ) H locs → LH ad ls 2 [(0, pX 200), (1, iX x1)] → WTv p l e ({ frames := 1, cells := 0, slots := 0, locals := 21 } : Room) s m args below meth c D dA ad A Q H locs (F0 m 65 ls []) := by
  intro n
  induction n with
  | zero =>
    intro x1 σ H locs ls hF
    exact hF.elim
  | succ n ih =>
    intro x1 σ H locs ls hF hP hl
    rw [P_X8_takeOver_65] at hF
    refine ph_iload_n (n := 1) X hl dX8_takeOver_65 rfl rfl ?_
    refine lv_bipush (v := 7) X.1 X.2.1 dX8_takeOver_66 (by decide) ?_
    refine lv_icmp_ge (tgt := 84) X.1 X.2.1 dX8_takeOver_68 (by decide) (fun c11 => ?_) (fun c11 => ?_)
    · have hF := hF.1 c11
      refine ph_aload_n (n := 0) X hl dX8_takeOver_84 rfl rfl ?_
      refine lv_iconst (v := 0) X.1 X.2.1 dX8_takeOver_85 (by decide) ?_
      refine tw_puti 26 X hP q1796 dX8_takeOver_86 hF (fun H locs σ1 hP hF => ?_)
      refine ph_aload_n (n := 0) X hl dX8_takeOver_89 rfl rfl ?_
      refine lv_iconst (v := (-1)) X.1 X.2.1 dX8_takeOver_90 (by decide) ?_
      refine tw_puti 27 X hP q1797 dX8_takeOver_91 hF (fun H locs σ2 hP hF => ?_)
      refine ph_aload_n (n := 0) X hl dX8_takeOver_94 rfl rfl ?_
      refine lv_iconst (v := 0) X.1 X.2.1 dX8_takeOver_95 (by decide) ?_
      refine tw_puti 28 X hP q1798 dX8_takeOver_96 hF (fun H locs σ3 hP hF => ?_)
      refine ph_aload_n (n := 0) X hl dX8_takeOver_99 rfl rfl ?_
      refine ph_aload_n (n := 0) X hl dX8_takeOver_100 rfl rfl ?_
      refine tw_getr 3 203 X hP q1773 dX8_takeOver_101 ?_
      refine lv_iconst (v := 5) X.1 X.2.1 dX8_takeOver_104 (by decide) ?_
      refine tw_ald 3 (n := 16) X hP (vin (by decide)) (k := 5) (by decide) dX8_takeOver_105 ?_
      refine tw_puti 29 X hP q1799 dX8_takeOver_106 hF (fun H locs σ4 hP hF => ?_)
      refine ph_aload_n (n := 0) X hl dX8_takeOver_109 rfl rfl ?_
      refine lv_iconst (v := 0) X.1 X.2.1 dX8_takeOver_110 (by decide) ?_
      refine tw_puti 30 X hP q1800 dX8_takeOver_111 hF (fun H locs σ5 hP hF => ?_)
      refine ph_aload_n (n := 0) X hl dX8_takeOver_114 rfl rfl ?_
      refine lv_iconst (v := 0) X.1 X.2.1 dX8_takeOver_115 (by decide) ?_
      refine tw_puti 31 X hP q1801 dX8_takeOver_116 hF (fun H locs σ6 hP hF => ?_)
      refine ph_aload_n (n := 0) X hl dX8_takeOver_119 rfl rfl ?_
      refine lv_iconst (v := 0) X.1 X.2.1 dX8_takeOver_120 (by decide) ?_
      refine tw_putz 58 X hP q1828 dX8_takeOver_121 isB_0 hF (fun H locs σ7 hP hF => ?_)
      refine ph_aload_n (n := 0) X hl dX8_takeOver_124 rfl rfl ?_
      refine lv_iconst (v := 0) X.1 X.2.1 dX8_takeOver_125 (by decide) ?_
      refine tw_putz 64 X hP q1834 dX8_takeOver_126 isB_0 hF (fun H locs σ8 hP hF => ?_)
      exact tw_vret X hP hF dX8_takeOver_129
    · have hF := hF.2 c11
      refine ph_aload_n (n := 0) X hl dX8_takeOver_71 rfl rfl ?_
      refine tw_getr 24 214 X hP q1794 dX8_takeOver_72 ?_
      refine ph_iload_n (n := 1) X hl dX8_takeOver_75 rfl rfl ?_
      refine ph_iload_n (n := 1) X hl dX8_takeOver_76 rfl rfl ?_
      obtain ⟨hr10, hF⟩ := hF
      refine tw_ast 14 (n := 7) X hP hr10 (k := x1.toNatClampNeg) rfl dX8_takeOver_77 hF (fun H locs σ9 hP hF => ?_)
      refine ph_iinc (v := x1 + 1) (k := 1) X hl dX8_takeOver_78 rfl rfl (by decide) rfl (fun ls hl => ?_)
      refine lv_goto (tgt := 65) X.1 X.2.1 dX8_takeOver_81 (by decide) ?_
      exact ih _ _ _ _ _ hF hP (lh_sub hl [1, 0] rfl)
set_option maxHeartbeats 2000000 in
theorem met_X8_takeOver (l : Launch) (D : va_G) (dA : Nat → ClassId) (ad : Nat → Nat) (σ : S) (sz : Nat) {Q : S → Prop} (hF : P_X8_takeOver  σ Q) : CTv l yX8_takeOver cX8_takeOver 2 ({ frames := 1, cells := 0, slots := 0, locals := 21 } : Room) D dA ad σ sz [pX 200] Q := by
  unfold P_X8_takeOver at hF
  refine ph_enter [pX 200] (Qc := fun A => va_Qv (TQv Q) (CB D dA ad A) A) (by decide +kernel) (Nat.le_of_ble_eq_true rfl) ?_
  intro p e s m args below meth c A ls X hP hl hnm
  have hl : LH ad ls 2 [(0, pX 200)] := hl
  refine ph_aload_n (n := 0) X hl dX8_takeOver_0 rfl rfl ?_
  refine tw_getr 3 203 X hP q1773 dX8_takeOver_1 ?_
  refine tw_callSv [pX 203] X hP (met_X8_takeHalf l D dA ad _ _ hF) (va_cwS 1 X.2.2.2.2.1 (lw_S q2117 q2118 q126 q2119) rfl rfl rfl (by decide +kernel) ⟨Nat.le_of_ble_eq_true rfl, Nat.le_of_ble_eq_true rfl⟩) rfl hl (k8 := 0) (cs0 (k := 0)) (by decide) ⟨Nat.le_refl _, Nat.le_refl _⟩ dX8_takeOver_4 rfl (fun σ12 H locs hF hP => ?_)
  refine ph_aload_n (n := 0) X hl dX8_takeOver_7 rfl rfl ?_
  refine tw_getr 4 204 X hP q1774 dX8_takeOver_8 ?_
  refine tw_callSv [pX 204] X hP (met_X8_takeHalf l D dA ad _ _ hF) (va_cwS 1 X.2.2.2.2.1 (lw_S q2117 q2118 q126 q2119) rfl rfl rfl (by decide +kernel) ⟨Nat.le_of_ble_eq_true rfl, Nat.le_of_ble_eq_true rfl⟩) rfl hl (k8 := 0) (cs0 (k := 0)) (by decide) ⟨Nat.le_refl _, Nat.le_refl _⟩ dX8_takeOver_11 rfl (fun σ14 H locs hF hP => ?_)
  refine ph_aload_n (n := 0) X hl dX8_takeOver_14 rfl rfl ?_
  refine tw_getr 5 205 X hP q1775 dX8_takeOver_15 ?_
  refine tw_callSv [pX 205] X hP (met_X8_takeHalf l D dA ad _ _ hF) (va_cwS 1 X.2.2.2.2.1 (lw_S q2117 q2118 q126 q2119) rfl rfl rfl (by decide +kernel) ⟨Nat.le_of_ble_eq_true rfl, Nat.le_of_ble_eq_true rfl⟩) rfl hl (k8 := 0) (cs0 (k := 0)) (by decide) ⟨Nat.le_refl _, Nat.le_refl _⟩ dX8_takeOver_18 rfl (fun σ16 H locs hF hP => ?_)
  refine ph_aload_n (n := 0) X hl dX8_takeOver_21 rfl rfl ?_
  refine tw_getr 6 206 X hP q1776 dX8_takeOver_22 ?_
  refine tw_callSv [pX 206] X hP (met_X8_takeHalf l D dA ad _ _ hF) (va_cwS 1 X.2.2.2.2.1 (lw_S q2117 q2118 q126 q2119) rfl rfl rfl (by decide +kernel) ⟨Nat.le_of_ble_eq_true rfl, Nat.le_of_ble_eq_true rfl⟩) rfl hl (k8 := 0) (cs0 (k := 0)) (by decide) ⟨Nat.le_refl _, Nat.le_refl _⟩ dX8_takeOver_25 rfl (fun σ18 H locs hF hP => ?_)
  refine ph_aload_n (n := 0) X hl dX8_takeOver_28 rfl rfl ?_
  refine tw_getr 7 207 X hP q1777 dX8_takeOver_29 ?_
  refine tw_callSv [pX 207] X hP (met_X8_takeHalf l D dA ad _ _ hF) (va_cwS 1 X.2.2.2.2.1 (lw_S q2117 q2118 q126 q2119) rfl rfl rfl (by decide +kernel) ⟨Nat.le_of_ble_eq_true rfl, Nat.le_of_ble_eq_true rfl⟩) rfl hl (k8 := 0) (cs0 (k := 0)) (by decide) ⟨Nat.le_refl _, Nat.le_refl _⟩ dX8_takeOver_32 rfl (fun σ20 H locs hF hP => ?_)
  refine ph_aload_n (n := 0) X hl dX8_takeOver_35 rfl rfl ?_
  refine tw_getr 8 208 X hP q1778 dX8_takeOver_36 ?_
  refine tw_callSv [pX 208] X hP (met_X8_takeHalf l D dA ad _ _ hF) (va_cwS 1 X.2.2.2.2.1 (lw_S q2117 q2118 q126 q2119) rfl rfl rfl (by decide +kernel) ⟨Nat.le_of_ble_eq_true rfl, Nat.le_of_ble_eq_true rfl⟩) rfl hl (k8 := 0) (cs0 (k := 0)) (by decide) ⟨Nat.le_refl _, Nat.le_refl _⟩ dX8_takeOver_39 rfl (fun σ22 H locs hF hP => ?_)
  refine ph_aload_n (n := 0) X hl dX8_takeOver_42 rfl rfl ?_
  refine tw_getr 9 209 X hP q1779 dX8_takeOver_43 ?_
  refine tw_callSv [pX 209] X hP (met_X8_takeHalf l D dA ad _ _ hF) (va_cwS 1 X.2.2.2.2.1 (lw_S q2117 q2118 q126 q2119) rfl rfl rfl (by decide +kernel) ⟨Nat.le_of_ble_eq_true rfl, Nat.le_of_ble_eq_true rfl⟩) rfl hl (k8 := 0) (cs0 (k := 0)) (by decide) ⟨Nat.le_refl _, Nat.le_refl _⟩ dX8_takeOver_46 rfl (fun σ24 H locs hF hP => ?_)
  refine ph_aload_n (n := 0) X hl dX8_takeOver_49 rfl rfl ?_
  refine tw_getr 10 210 X hP q1780 dX8_takeOver_50 ?_
  refine tw_callSv [pX 210] X hP (met_X8_takeHalf l D dA ad _ _ hF) (va_cwS 1 X.2.2.2.2.1 (lw_S q2117 q2118 q126 q2119) rfl rfl rfl (by decide +kernel) ⟨Nat.le_of_ble_eq_true rfl, Nat.le_of_ble_eq_true rfl⟩) rfl hl (k8 := 0) (cs0 (k := 0)) (by decide) ⟨Nat.le_refl _, Nat.le_refl _⟩ dX8_takeOver_53 rfl (fun σ26 H locs hF hP => ?_)
  refine ph_aload_n (n := 0) X hl dX8_takeOver_56 rfl rfl ?_
  refine tw_getr 11 211 X hP q1781 dX8_takeOver_57 ?_
  refine tw_callSv [pX 211] X hP (met_X8_takeHalf l D dA ad _ _ hF) (va_cwS 1 X.2.2.2.2.1 (lw_S q2117 q2118 q126 q2119) rfl rfl rfl (by decide +kernel) ⟨Nat.le_of_ble_eq_true rfl, Nat.le_of_ble_eq_true rfl⟩) rfl hl (k8 := 0) (cs0 (k := 0)) (by decide) ⟨Nat.le_refl _, Nat.le_refl _⟩ dX8_takeOver_60 rfl (fun σ28 H locs hF hP => ?_)
  refine lv_iconst (v := 0) X.1 X.2.1 dX8_takeOver_63 (by decide) ?_
  refine ph_istore_n X hl dX8_takeOver_64 rfl (by decide) rfl (fun ls hl => ?_)
  obtain ⟨n9, hF⟩ := hF
  exact w_X8_takeOver_65 X n9 _ _ _ _ _ hF hP (lh_sub hl [1, 0] rfl)
def P_X8_fault  (σ : S) (Q : Int32 → S → Prop) : Prop := (∀ σ1, σ1 = up2 σ 0 2 0 → (Q (σ1 0 23) σ1))
set_option maxHeartbeats 2000000 in
theorem met_X8_fault (l : Launch) (D : va_G) (dA : Nat → ClassId) (ad : Nat → Nat) (σ : S) (sz : Nat) {Q : Int32 → S → Prop} (hF : P_X8_fault  σ Q) : CTi l yX8_fault cX8_fault 1 .int ({ frames := 0, cells := 0, slots := 0, locals := 0 } : Room) D dA ad σ sz [pX 200] Q := by
  unfold P_X8_fault at hF
  refine ph_enter [pX 200] (Qc := fun A => va_Qi (TQi Q) (CB D dA ad A) A) (by decide +kernel) (Nat.le_of_ble_eq_true rfl) ?_
  intro p e s m args below meth c A ls X hP hl hnm
  have hl : LH ad ls 1 [(0, pX 200)] := hl
  refine ph_aload_n (n := 0) X hl dX8_fault_0 rfl rfl ?_
  refine lv_iconst (v := 0) X.1 X.2.1 dX8_fault_1 (by decide) ?_
  refine tw_puti 2 X hP q1772 dX8_fault_2 hF (fun H locs σ1 hP hF => ?_)
  refine ph_aload_n (n := 0) X hl dX8_fault_5 rfl rfl ?_
  refine tw_geti 23 X hP q1793 dX8_fault_6 ?_
  exact tw_iret X hP hF dX8_fault_9
def P_X8_tellFree_9 (Q : S → Prop) : Nat → Int32 → Int32 → S → Prop
  | 0, _, _, _ => False
  | n + 1, x1, x2, σ => (((σ 0 45) ≤ x2 → (((σ 3 1) < x1 → (∀ σ1, σ1 = up2 σ 0 53 0 → (Q σ1))) ∧ (¬ (σ 3 1) < x1 → (∀ σ2, σ2 = up2 σ 0 53 1 → (Q σ2))))) ∧ (¬ (σ 0 45) ≤ x2 → (vp_in x2 7 ∧ (vp_in (σ 18 x2.toNatClampNeg) 14 ∧ (P_X8_tellFree_9 Q  n (x1 + (σ 7 ((σ 18 x2.toNatClampNeg).toNatClampNeg))) (x2 + 1) σ)))))
def P_X8_tellFree  (σ : S) (Q : S → Prop) : Prop := (∃ n9, P_X8_tellFree_9 Q n9 (σ 3 2) 0 σ)
set_option maxHeartbeats 2000000 in
theorem w_X8_tellFree_9 (X : CX p s m args c meth cX8_tellFree 3 none RX8 D dA ad A) {Q : S → Prop} : ∀ (n : Nat) (x1 : Int32) (x2 : Int32) (σ : S) (H : Heap) (locs : List Loc) (ls : Array Slot), P_X8_tellFree_9 Q n x1 x2 σ → PW D dA A s.heap ad (TH σ) H locs → LH ad ls 3 [(0, pX 200), (1, iX x1), (2, iX x2)] → WTv p l e ({ frames := 0, cells := 0, slots := 0, locals := 0 } : Room) s m args below meth c D dA ad A Q H locs (F0 m 9 ls []) := by
  intro n
  induction n with
  | zero =>
    intro x1 x2 σ H locs ls hF
    exact hF.elim
  | succ n ih =>
    intro x1 x2 σ H locs ls hF hP hl
    rw [P_X8_tellFree_9] at hF
    refine ph_iload_n (n := 2) X hl dX8_tellFree_9 rfl rfl ?_
    refine ph_aload_n (n := 0) X hl dX8_tellFree_10 rfl rfl ?_
    refine tw_geti 45 X hP q1815 dX8_tellFree_11 ?_
    refine lv_icmp_ge (tgt := 37) X.1 X.2.1 dX8_tellFree_14 (by decide) (fun c6 => ?_) (fun c6 => ?_)
    · have hF := hF.1 c6
      refine ph_aload_n (n := 0) X hl dX8_tellFree_37 rfl rfl ?_
      refine ph_aload_n (n := 0) X hl dX8_tellFree_38 rfl rfl ?_
      refine tw_getr 3 203 X hP q1773 dX8_tellFree_39 ?_
      refine lv_iconst (v := 1) X.1 X.2.1 dX8_tellFree_42 (by decide) ?_
      refine tw_ald 3 (n := 16) X hP (vin (by decide)) (k := 1) (by decide) dX8_tellFree_43 ?_
      refine ph_iload_n (n := 1) X hl dX8_tellFree_44 rfl rfl ?_
      refine lv_icmp_lt (tgt := 52) X.1 X.2.1 dX8_tellFree_45 (by decide) (fun c3 => ?_) (fun c3 => ?_)
      · have hF := hF.1 c3
        refine lv_iconst (v := 0) X.1 X.2.1 dX8_tellFree_52 (by decide) ?_
        refine tw_putz 53 X hP q1823 dX8_tellFree_53 isB_0 hF (fun H locs σ1 hP hF => ?_)
        exact tw_vret X hP hF dX8_tellFree_56
      · have hF := hF.2 c3
        refine lv_iconst (v := 1) X.1 X.2.1 dX8_tellFree_48 (by decide) ?_
        refine lv_goto (tgt := 53) X.1 X.2.1 dX8_tellFree_49 (by decide) ?_
        refine tw_putz 53 X hP q1823 dX8_tellFree_53 isB_1 hF (fun H locs σ2 hP hF => ?_)
        exact tw_vret X hP hF dX8_tellFree_56
    · have hF := hF.2 c6
      refine ph_iload_n (n := 1) X hl dX8_tellFree_17 rfl rfl ?_
      refine ph_aload_n (n := 0) X hl dX8_tellFree_18 rfl rfl ?_
      refine tw_getr 7 207 X hP q1777 dX8_tellFree_19 ?_
      refine ph_aload_n (n := 0) X hl dX8_tellFree_22 rfl rfl ?_
      refine tw_getr 34 218 X hP q1804 dX8_tellFree_23 ?_
      refine ph_iload_n (n := 2) X hl dX8_tellFree_26 rfl rfl ?_
      obtain ⟨hr4, hF⟩ := hF
      refine tw_ald 18 (n := 7) X hP hr4 (k := x2.toNatClampNeg) rfl dX8_tellFree_27 ?_
      obtain ⟨hr5, hF⟩ := hF
      refine tw_ald 7 (n := 14) X hP hr5 (k := (σ 18 x2.toNatClampNeg).toNatClampNeg) rfl dX8_tellFree_28 ?_
      refine lv_iadd X.1 X.2.1 dX8_tellFree_29 ?_
      refine ph_istore_n X hl dX8_tellFree_30 rfl (by decide) rfl (fun ls hl => ?_)
      refine ph_iinc (v := x2 + 1) (k := 2) X hl dX8_tellFree_31 rfl rfl (by decide) rfl (fun ls hl => ?_)
      refine lv_goto (tgt := 9) X.1 X.2.1 dX8_tellFree_34 (by decide) ?_
      exact ih _ _ _ _ _ _ hF hP (lh_sub hl [2, 1, 0] rfl)
set_option maxHeartbeats 2000000 in
theorem met_X8_tellFree (l : Launch) (D : va_G) (dA : Nat → ClassId) (ad : Nat → Nat) (σ : S) (sz : Nat) {Q : S → Prop} (hF : P_X8_tellFree  σ Q) : CTv l yX8_tellFree cX8_tellFree 3 ({ frames := 0, cells := 0, slots := 0, locals := 0 } : Room) D dA ad σ sz [pX 200] Q := by
  unfold P_X8_tellFree at hF
  refine ph_enter [pX 200] (Qc := fun A => va_Qv (TQv Q) (CB D dA ad A) A) (by decide +kernel) (Nat.le_of_ble_eq_true rfl) ?_
  intro p e s m args below meth c A ls X hP hl hnm
  have hl : LH ad ls 3 [(0, pX 200)] := hl
  refine ph_aload_n (n := 0) X hl dX8_tellFree_0 rfl rfl ?_
  refine tw_getr 3 203 X hP q1773 dX8_tellFree_1 ?_
  refine lv_iconst (v := 2) X.1 X.2.1 dX8_tellFree_4 (by decide) ?_
  refine tw_ald 3 (n := 16) X hP (vin (by decide)) (k := 2) (by decide) dX8_tellFree_5 ?_
  refine ph_istore_n X hl dX8_tellFree_6 rfl (by decide) rfl (fun ls hl => ?_)
  refine lv_iconst (v := 0) X.1 X.2.1 dX8_tellFree_7 (by decide) ?_
  refine ph_istore_n X hl dX8_tellFree_8 rfl (by decide) rfl (fun ls hl => ?_)
  obtain ⟨n9, hF⟩ := hF
  exact w_X8_tellFree_9 X n9 _ _ _ _ _ _ hF hP (lh_sub hl [2, 1, 0] rfl)
def P_X8_set_75 (Q : S → Prop) (y1 : Int32) (σ : S) : Prop := (∀ σ1, σ1 = up2 σ 0 47 y1 → (∀ σ2, σ2 = up2 σ1 0 48 (σ1 0 29) → (P_X8_tellFree σ2 (fun σ3 => (Q σ3)))))
def P_X8_set_12 (Q : S → Prop) : Nat → Int32 → S → Prop
  | 0, _, _ => False
  | n + 1, x1, σ => (((σ 0 45) ≤ x1 → (∀ σ5, σ5 = up2 σ 0 46 (σ 0 27) → ((¬ (σ5 0 27) = (-1) → (P_X8_set_75 Q (σ5 0 28) σ5)) ∧ ((σ5 0 27) = (-1) → (P_X8_set_75 Q 0 σ5))))) ∧ (¬ (σ 0 45) ≤ x1 → (vp_in x1 7 ∧ (vp_in x1 7 ∧ (∀ σ8, σ8 = up2 σ 18 x1.toNatClampNeg (σ 14 x1.toNatClampNeg) → (vp_in x1 14 ∧ (vp_in x1 7 ∧ (∀ σ11, σ11 = up2 σ8 19 x1.toNatClampNeg (σ8 8 x1.toNatClampNeg) → (P_X8_set_12 Q  n (x1 + 1) σ11)))))))))
def P_X8_set  (σ : S) (Q : S → Prop) : Prop := (∀ σ14, σ14 = up2 σ 0 45 (σ 3 0) → (∃ n9, P_X8_set_12 Q n9 0 σ14))
set_option maxHeartbeats 2000000 in
theorem w_X8_set_75 (X : CX p s m args c meth cX8_set 2 none RX8 D dA ad A) {Q : S → Prop} : ∀ (y1 : Int32) (σ : S) (H : Heap) (locs : List Loc) (ls : Array Slot), P_X8_set_75 Q y1 σ → PW D dA A s.heap ad (TH σ) H locs → LH ad ls 2 [(0, pX 200)] → WTv p l e ({ frames := 1, cells := 0, slots := 0, locals := 22 } : Room) s m args below meth c D dA ad A Q H locs (F0 m 75 ls [.int y1, rv ad 200]) := by
  intro y1 σ H locs ls hF hP hl
  unfold P_X8_set_75 at hF
  refine tw_puti 47 X hP q1817 dX8_set_75 hF (fun H locs σ1 hP hF => ?_)
  refine ph_aload_n (n := 0) X hl dX8_set_78 rfl rfl ?_
  refine ph_aload_n (n := 0) X hl dX8_set_79 rfl rfl ?_
  refine tw_geti 29 X hP q1799 dX8_set_80 ?_
  refine tw_puti 48 X hP q1818 dX8_set_83 hF (fun H locs σ2 hP hF => ?_)
  refine ph_aload_n (n := 0) X hl dX8_set_86 rfl rfl ?_
  refine tw_callVv [] X hP (met_X8_tellFree l D dA ad _ _ hF) (cwV 0 X.2.2.2.2.1 (lw_V q2132 q2134 qs68 q126 q2135) rfl rfl rfl (by decide +kernel) ⟨Nat.le_of_ble_eq_true rfl, Nat.le_of_ble_eq_true rfl⟩) rfl hl (k8 := 0) (cs0 (k := 0)) (by decide) ⟨Nat.le_refl _, Nat.le_refl _⟩ dX8_set_87 rfl (fun σ3 H locs hF hP => ?_)
  exact tw_vret X hP hF dX8_set_90
set_option maxHeartbeats 2000000 in
theorem w_X8_set_12 (X : CX p s m args c meth cX8_set 2 none RX8 D dA ad A) {Q : S → Prop} : ∀ (n : Nat) (x1 : Int32) (σ : S) (H : Heap) (locs : List Loc) (ls : Array Slot), P_X8_set_12 Q n x1 σ → PW D dA A s.heap ad (TH σ) H locs → LH ad ls 2 [(0, pX 200), (1, iX x1)] → WTv p l e ({ frames := 1, cells := 0, slots := 0, locals := 22 } : Room) s m args below meth c D dA ad A Q H locs (F0 m 12 ls []) := by
  intro n
  induction n with
  | zero =>
    intro x1 σ H locs ls hF
    exact hF.elim
  | succ n ih =>
    intro x1 σ H locs ls hF hP hl
    rw [P_X8_set_12] at hF
    refine ph_iload_n (n := 1) X hl dX8_set_12 rfl rfl ?_
    refine ph_aload_n (n := 0) X hl dX8_set_13 rfl rfl ?_
    refine tw_geti 45 X hP q1815 dX8_set_14 ?_
    refine lv_icmp_ge (tgt := 50) X.1 X.2.1 dX8_set_17 (by decide) (fun c13 => ?_) (fun c13 => ?_)
    · have hF := hF.1 c13
      refine ph_aload_n (n := 0) X hl dX8_set_50 rfl rfl ?_
      refine ph_aload_n (n := 0) X hl dX8_set_51 rfl rfl ?_
      refine tw_geti 27 X hP q1797 dX8_set_52 ?_
      refine tw_puti 46 X hP q1816 dX8_set_55 hF (fun H locs σ5 hP hF => ?_)
      refine ph_aload_n (n := 0) X hl dX8_set_58 rfl rfl ?_
      refine ph_aload_n (n := 0) X hl dX8_set_59 rfl rfl ?_
      refine tw_geti 27 X hP q1797 dX8_set_60 ?_
      refine lv_iconst (v := (-1)) X.1 X.2.1 dX8_set_63 (by decide) ?_
      refine lv_icmp_ne (tgt := 71) X.1 X.2.1 dX8_set_64 (by decide) (fun c6 => ?_) (fun c6 => ?_)
      · have hF := hF.1 c6
        refine ph_aload_n (n := 0) X hl dX8_set_71 rfl rfl ?_
        refine tw_geti 28 X hP q1798 dX8_set_72 ?_
        exact w_X8_set_75 X _ _ _ _ _ hF hP (lh_sub hl [0] rfl)
      · have hF := hF.2 c6
        refine lv_iconst (v := 0) X.1 X.2.1 dX8_set_67 (by decide) ?_
        refine lv_goto (tgt := 75) X.1 X.2.1 dX8_set_68 (by decide) ?_
        exact w_X8_set_75 X _ _ _ _ _ hF hP (lh_sub hl [0] rfl)
    · have hF := hF.2 c13
      refine ph_aload_n (n := 0) X hl dX8_set_20 rfl rfl ?_
      refine tw_getr 34 218 X hP q1804 dX8_set_21 ?_
      refine ph_iload_n (n := 1) X hl dX8_set_24 rfl rfl ?_
      refine ph_aload_n (n := 0) X hl dX8_set_25 rfl rfl ?_
      refine tw_getr 24 214 X hP q1794 dX8_set_26 ?_
      refine ph_iload_n (n := 1) X hl dX8_set_29 rfl rfl ?_
      obtain ⟨hr7, hF⟩ := hF
      refine tw_ald 14 (n := 7) X hP hr7 (k := x1.toNatClampNeg) rfl dX8_set_30 ?_
      obtain ⟨hr9, hF⟩ := hF
      refine tw_ast 18 (n := 7) X hP hr9 (k := x1.toNatClampNeg) rfl dX8_set_31 hF (fun H locs σ8 hP hF => ?_)
      refine ph_aload_n (n := 0) X hl dX8_set_32 rfl rfl ?_
      refine tw_getr 35 219 X hP q1805 dX8_set_33 ?_
      refine ph_iload_n (n := 1) X hl dX8_set_36 rfl rfl ?_
      refine ph_aload_n (n := 0) X hl dX8_set_37 rfl rfl ?_
      refine tw_getr 8 208 X hP q1778 dX8_set_38 ?_
      refine ph_iload_n (n := 1) X hl dX8_set_41 rfl rfl ?_
      obtain ⟨hr10, hF⟩ := hF
      refine tw_ald 8 (n := 14) X hP hr10 (k := x1.toNatClampNeg) rfl dX8_set_42 ?_
      obtain ⟨hr12, hF⟩ := hF
      refine tw_ast 19 (n := 7) X hP hr12 (k := x1.toNatClampNeg) rfl dX8_set_43 hF (fun H locs σ11 hP hF => ?_)
      refine ph_iinc (v := x1 + 1) (k := 1) X hl dX8_set_44 rfl rfl (by decide) rfl (fun ls hl => ?_)
      refine lv_goto (tgt := 12) X.1 X.2.1 dX8_set_47 (by decide) ?_
      exact ih _ _ _ _ _ hF hP (lh_sub hl [1, 0] rfl)
set_option maxHeartbeats 2000000 in
theorem met_X8_set (l : Launch) (D : va_G) (dA : Nat → ClassId) (ad : Nat → Nat) (σ : S) (sz : Nat) {Q : S → Prop} (hF : P_X8_set  σ Q) : CTv l yX8_set cX8_set 2 ({ frames := 1, cells := 0, slots := 0, locals := 22 } : Room) D dA ad σ sz [pX 200] Q := by
  unfold P_X8_set at hF
  refine ph_enter [pX 200] (Qc := fun A => va_Qv (TQv Q) (CB D dA ad A) A) (by decide +kernel) (Nat.le_of_ble_eq_true rfl) ?_
  intro p e s m args below meth c A ls X hP hl hnm
  have hl : LH ad ls 2 [(0, pX 200)] := hl
  refine ph_aload_n (n := 0) X hl dX8_set_0 rfl rfl ?_
  refine ph_aload_n (n := 0) X hl dX8_set_1 rfl rfl ?_
  refine tw_getr 3 203 X hP q1773 dX8_set_2 ?_
  refine lv_iconst (v := 0) X.1 X.2.1 dX8_set_5 (by decide) ?_
  refine tw_ald 3 (n := 16) X hP (vin (by decide)) (k := 0) (by decide) dX8_set_6 ?_
  refine tw_puti 45 X hP q1815 dX8_set_7 hF (fun H locs σ14 hP hF => ?_)
  refine lv_iconst (v := 0) X.1 X.2.1 dX8_set_10 (by decide) ?_
  refine ph_istore_n X hl dX8_set_11 rfl (by decide) rfl (fun ls hl => ?_)
  obtain ⟨n9, hF⟩ := hF
  exact w_X8_set_12 X n9 _ _ _ _ _ hF hP (lh_sub hl [1, 0] rfl)
def P_X8_count (a1 : Int32) (σ : S) (Q : Int32 → S → Prop) : Prop := (∀ σ1, σ1 = up2 σ 0 2 0 → ((a1 = 0 → (vp_in a1 16 ∧ (Q (σ1 3 a1.toNatClampNeg) σ1))) ∧ (a1 = 1 → (vp_in a1 16 ∧ (Q (σ1 3 a1.toNatClampNeg) σ1))) ∧ (a1 = 2 → (vp_in a1 16 ∧ (Q (σ1 3 a1.toNatClampNeg) σ1))) ∧ (a1 = 3 → (vp_in a1 16 ∧ (Q (σ1 3 a1.toNatClampNeg) σ1))) ∧ (a1 = 4 → (vp_in a1 16 ∧ (Q (σ1 3 a1.toNatClampNeg) σ1))) ∧ (a1 = 5 → (Q (σ1 0 29) σ1)) ∧ (a1 = 6 → (Q (σ1 3 6) σ1)) ∧ (a1 = 7 → (Q (σ1 0 26) σ1)) ∧ (a1 = 8 → (Q (σ1 0 27) σ1)) ∧ (a1 = 9 → (Q (σ1 0 28) σ1)) ∧ (a1 = 10 → (P_X8_set σ1 (fun σ8 => (((σ8 0 53) = 0 → (Q 0 σ8)) ∧ (¬ (σ8 0 53) = 0 → (Q 1 σ8)))))) ∧ (a1 = 11 → (Q (σ1 0 30) σ1)) ∧ (a1 = 12 → (Q (σ1 0 31) σ1)) ∧ (a1 = 13 → (Q (σ1 0 14) σ1)) ∧ (a1 = 14 → (vp_in (a1 - 14) 3 ∧ (Q (σ1 12 ((a1 - 14).toNatClampNeg)) σ1))) ∧ (a1 = 15 → (vp_in (a1 - 14) 3 ∧ (Q (σ1 12 ((a1 - 14).toNatClampNeg)) σ1))) ∧ (a1 = 16 → (vp_in (a1 - 14) 3 ∧ (Q (σ1 12 ((a1 - 14).toNatClampNeg)) σ1))) ∧ ((a1.toInt < 0 ∨ 16 < a1.toInt) → (P_X8_fail 1 σ1 (fun r15 σ14 => (Q r15 σ14))))))
set_option maxHeartbeats 2000000 in
theorem met_X8_count (l : Launch) (D : va_G) (dA : Nat → ClassId) (ad : Nat → Nat) (σ : S) (sz : Nat) {a1 : Int32} {Q : Int32 → S → Prop} (hF : P_X8_count a1 σ Q) : CTi l yX8_count cX8_count 2 .int ({ frames := 2, cells := 0, slots := 0, locals := 43 } : Room) D dA ad σ sz [pX 200, iX a1] Q := by
  unfold P_X8_count at hF
  refine ph_enter [pX 200, iX a1] (Qc := fun A => va_Qi (TQi Q) (CB D dA ad A) A) (by decide +kernel) (Nat.le_of_ble_eq_true rfl) ?_
  intro p e s m args below meth c A ls X hP hl hnm
  have hl : LH ad ls 2 [(0, pX 200), (1, iX a1)] := hl
  refine ph_aload_n (n := 0) X hl dX8_count_0 rfl rfl ?_
  refine lv_iconst (v := 0) X.1 X.2.1 dX8_count_1 (by decide) ?_
  refine tw_puti 2 X hP q1772 dX8_count_2 hF (fun H locs σ1 hP hF => ?_)
  refine ph_iload_n (n := 1) X hl dX8_count_5 rfl rfl ?_
  rcases ts_cases a1 0 17 with ⟨j9, hs2⟩ | hs2
  · obtain ⟨hj9, hs2⟩ := hs2
    rcases ts_lt17 hj9 with rfl | rfl | rfl | rfl | rfl | rfl | rfl | rfl | rfl | rfl | rfl | rfl | rfl | rfl | rfl | rfl | rfl
    · have hx9 : a1 = 0 := hs2.trans (by decide)
      have hF := hF.1 hx9
      refine lv_tableIn (tgt := 88) (off := 82) X.1 X.2.1 dX8_count_6 (by rw [hx9]; decide) (by rw [hx9]; decide) (by rw [hx9]; decide) (by decide) ?_
      refine ph_aload_n (n := 0) X hl dX8_count_88 rfl rfl ?_
      refine tw_getr 3 203 X hP q1773 dX8_count_89 ?_
      refine ph_iload_n (n := 1) X hl dX8_count_92 rfl rfl ?_
      obtain ⟨hr3, hF⟩ := hF
      refine tw_ald 3 (n := 16) X hP hr3 (k := a1.toNatClampNeg) rfl dX8_count_93 ?_
      exact tw_iret X hP hF dX8_count_94
    · have hx9 : a1 = 1 := hs2.trans (by decide)
      have hF := hF.2.1 hx9
      refine lv_tableIn (tgt := 88) (off := 82) X.1 X.2.1 dX8_count_6 (by rw [hx9]; decide) (by rw [hx9]; decide) (by rw [hx9]; decide) (by decide) ?_
      refine ph_aload_n (n := 0) X hl dX8_count_88 rfl rfl ?_
      refine tw_getr 3 203 X hP q1773 dX8_count_89 ?_
      refine ph_iload_n (n := 1) X hl dX8_count_92 rfl rfl ?_
      obtain ⟨hr4, hF⟩ := hF
      refine tw_ald 3 (n := 16) X hP hr4 (k := a1.toNatClampNeg) rfl dX8_count_93 ?_
      exact tw_iret X hP hF dX8_count_94
    · have hx9 : a1 = 2 := hs2.trans (by decide)
      have hF := hF.2.2.1 hx9
      refine lv_tableIn (tgt := 88) (off := 82) X.1 X.2.1 dX8_count_6 (by rw [hx9]; decide) (by rw [hx9]; decide) (by rw [hx9]; decide) (by decide) ?_
      refine ph_aload_n (n := 0) X hl dX8_count_88 rfl rfl ?_
      refine tw_getr 3 203 X hP q1773 dX8_count_89 ?_
      refine ph_iload_n (n := 1) X hl dX8_count_92 rfl rfl ?_
      obtain ⟨hr5, hF⟩ := hF
      refine tw_ald 3 (n := 16) X hP hr5 (k := a1.toNatClampNeg) rfl dX8_count_93 ?_
      exact tw_iret X hP hF dX8_count_94
    · have hx9 : a1 = 3 := hs2.trans (by decide)
      have hF := hF.2.2.2.1 hx9
      refine lv_tableIn (tgt := 88) (off := 82) X.1 X.2.1 dX8_count_6 (by rw [hx9]; decide) (by rw [hx9]; decide) (by rw [hx9]; decide) (by decide) ?_
      refine ph_aload_n (n := 0) X hl dX8_count_88 rfl rfl ?_
      refine tw_getr 3 203 X hP q1773 dX8_count_89 ?_
      refine ph_iload_n (n := 1) X hl dX8_count_92 rfl rfl ?_
      obtain ⟨hr6, hF⟩ := hF
      refine tw_ald 3 (n := 16) X hP hr6 (k := a1.toNatClampNeg) rfl dX8_count_93 ?_
      exact tw_iret X hP hF dX8_count_94
    · have hx9 : a1 = 4 := hs2.trans (by decide)
      have hF := hF.2.2.2.2.1 hx9
      refine lv_tableIn (tgt := 88) (off := 82) X.1 X.2.1 dX8_count_6 (by rw [hx9]; decide) (by rw [hx9]; decide) (by rw [hx9]; decide) (by decide) ?_
      refine ph_aload_n (n := 0) X hl dX8_count_88 rfl rfl ?_
      refine tw_getr 3 203 X hP q1773 dX8_count_89 ?_
      refine ph_iload_n (n := 1) X hl dX8_count_92 rfl rfl ?_
      obtain ⟨hr7, hF⟩ := hF
      refine tw_ald 3 (n := 16) X hP hr7 (k := a1.toNatClampNeg) rfl dX8_count_93 ?_
      exact tw_iret X hP hF dX8_count_94
    · have hx9 : a1 = 5 := hs2.trans (by decide)
      have hF := hF.2.2.2.2.2.1 hx9
      refine lv_tableIn (tgt := 95) (off := 89) X.1 X.2.1 dX8_count_6 (by rw [hx9]; decide) (by rw [hx9]; decide) (by rw [hx9]; decide) (by decide) ?_
      refine ph_aload_n (n := 0) X hl dX8_count_95 rfl rfl ?_
      refine tw_geti 29 X hP q1799 dX8_count_96 ?_
      exact tw_iret X hP hF dX8_count_99
    · have hx9 : a1 = 6 := hs2.trans (by decide)
      have hF := hF.2.2.2.2.2.2.1 hx9
      refine lv_tableIn (tgt := 100) (off := 94) X.1 X.2.1 dX8_count_6 (by rw [hx9]; decide) (by rw [hx9]; decide) (by rw [hx9]; decide) (by decide) ?_
      refine ph_aload_n (n := 0) X hl dX8_count_100 rfl rfl ?_
      refine tw_getr 3 203 X hP q1773 dX8_count_101 ?_
      refine lv_bipush (v := 6) X.1 X.2.1 dX8_count_104 (by decide) ?_
      refine tw_ald 3 (n := 16) X hP (vin (by decide)) (k := 6) (by decide) dX8_count_106 ?_
      exact tw_iret X hP hF dX8_count_107
    · have hx9 : a1 = 7 := hs2.trans (by decide)
      have hF := hF.2.2.2.2.2.2.2.1 hx9
      refine lv_tableIn (tgt := 108) (off := 102) X.1 X.2.1 dX8_count_6 (by rw [hx9]; decide) (by rw [hx9]; decide) (by rw [hx9]; decide) (by decide) ?_
      refine ph_aload_n (n := 0) X hl dX8_count_108 rfl rfl ?_
      refine tw_geti 26 X hP q1796 dX8_count_109 ?_
      exact tw_iret X hP hF dX8_count_112
    · have hx9 : a1 = 8 := hs2.trans (by decide)
      have hF := hF.2.2.2.2.2.2.2.2.1 hx9
      refine lv_tableIn (tgt := 113) (off := 107) X.1 X.2.1 dX8_count_6 (by rw [hx9]; decide) (by rw [hx9]; decide) (by rw [hx9]; decide) (by decide) ?_
      refine ph_aload_n (n := 0) X hl dX8_count_113 rfl rfl ?_
      refine tw_geti 27 X hP q1797 dX8_count_114 ?_
      exact tw_iret X hP hF dX8_count_117
    · have hx9 : a1 = 9 := hs2.trans (by decide)
      have hF := hF.2.2.2.2.2.2.2.2.2.1 hx9
      refine lv_tableIn (tgt := 118) (off := 112) X.1 X.2.1 dX8_count_6 (by rw [hx9]; decide) (by rw [hx9]; decide) (by rw [hx9]; decide) (by decide) ?_
      refine ph_aload_n (n := 0) X hl dX8_count_118 rfl rfl ?_
      refine tw_geti 28 X hP q1798 dX8_count_119 ?_
      exact tw_iret X hP hF dX8_count_122
    · have hx9 : a1 = 10 := hs2.trans (by decide)
      have hF := hF.2.2.2.2.2.2.2.2.2.2.1 hx9
      refine lv_tableIn (tgt := 123) (off := 117) X.1 X.2.1 dX8_count_6 (by rw [hx9]; decide) (by rw [hx9]; decide) (by rw [hx9]; decide) (by decide) ?_
      refine ph_aload_n (n := 0) X hl dX8_count_123 rfl rfl ?_
      refine tw_callVv [] X hP (met_X8_set l D dA ad _ _ hF) (cwV 0 X.2.2.2.2.1 (lw_V q2128 q2130 qs67 q126 q2131) rfl rfl rfl (by decide +kernel) ⟨Nat.le_of_ble_eq_true rfl, Nat.le_of_ble_eq_true rfl⟩) rfl hl (k8 := 0) (cs0 (k := 0)) (by decide) ⟨Nat.le_refl _, Nat.le_refl _⟩ dX8_count_124 rfl (fun σ8 H locs hF hP => ?_)
      refine ph_aload_n (n := 0) X hl dX8_count_127 rfl rfl ?_
      refine tw_geti 53 X hP q1823 dX8_count_128 ?_
      refine lv_if_eq (tgt := 138) X.1 X.2.1 dX8_count_131 (by decide) (fun c10 => ?_) (fun c10 => ?_)
      · have hF := hF.1 c10
        refine lv_iconst (v := 0) X.1 X.2.1 dX8_count_138 (by decide) ?_
        exact tw_iret X hP hF dX8_count_139
      · have hF := hF.2 c10
        refine lv_iconst (v := 1) X.1 X.2.1 dX8_count_134 (by decide) ?_
        refine lv_goto (tgt := 139) X.1 X.2.1 dX8_count_135 (by decide) ?_
        exact tw_iret X hP hF dX8_count_139
    · have hx9 : a1 = 11 := hs2.trans (by decide)
      have hF := hF.2.2.2.2.2.2.2.2.2.2.2.1 hx9
      refine lv_tableIn (tgt := 140) (off := 134) X.1 X.2.1 dX8_count_6 (by rw [hx9]; decide) (by rw [hx9]; decide) (by rw [hx9]; decide) (by decide) ?_
      refine ph_aload_n (n := 0) X hl dX8_count_140 rfl rfl ?_
      refine tw_geti 30 X hP q1800 dX8_count_141 ?_
      exact tw_iret X hP hF dX8_count_144
    · have hx9 : a1 = 12 := hs2.trans (by decide)
      have hF := hF.2.2.2.2.2.2.2.2.2.2.2.2.1 hx9
      refine lv_tableIn (tgt := 145) (off := 139) X.1 X.2.1 dX8_count_6 (by rw [hx9]; decide) (by rw [hx9]; decide) (by rw [hx9]; decide) (by decide) ?_
      refine ph_aload_n (n := 0) X hl dX8_count_145 rfl rfl ?_
      refine tw_geti 31 X hP q1801 dX8_count_146 ?_
      exact tw_iret X hP hF dX8_count_149
    · have hx9 : a1 = 13 := hs2.trans (by decide)
      have hF := hF.2.2.2.2.2.2.2.2.2.2.2.2.2.1 hx9
      refine lv_tableIn (tgt := 150) (off := 144) X.1 X.2.1 dX8_count_6 (by rw [hx9]; decide) (by rw [hx9]; decide) (by rw [hx9]; decide) (by decide) ?_
      refine ph_aload_n (n := 0) X hl dX8_count_150 rfl rfl ?_
      refine tw_geti 14 X hP q1784 dX8_count_151 ?_
      exact tw_iret X hP hF dX8_count_154
    · have hx9 : a1 = 14 := hs2.trans (by decide)
      have hF := hF.2.2.2.2.2.2.2.2.2.2.2.2.2.2.1 hx9
      refine lv_tableIn (tgt := 155) (off := 149) X.1 X.2.1 dX8_count_6 (by rw [hx9]; decide) (by rw [hx9]; decide) (by rw [hx9]; decide) (by decide) ?_
      refine ph_aload_n (n := 0) X hl dX8_count_155 rfl rfl ?_
      refine tw_getr 12 212 X hP q1782 dX8_count_156 ?_
      refine ph_iload_n (n := 1) X hl dX8_count_159 rfl rfl ?_
      refine lv_bipush (v := 14) X.1 X.2.1 dX8_count_160 (by decide) ?_
      refine lv_isub X.1 X.2.1 dX8_count_162 ?_
      obtain ⟨hr11, hF⟩ := hF
      refine tw_ald 12 (n := 3) X hP hr11 (k := (a1 - 14).toNatClampNeg) rfl dX8_count_163 ?_
      exact tw_iret X hP hF dX8_count_164
    · have hx9 : a1 = 15 := hs2.trans (by decide)
      have hF := hF.2.2.2.2.2.2.2.2.2.2.2.2.2.2.2.1 hx9
      refine lv_tableIn (tgt := 155) (off := 149) X.1 X.2.1 dX8_count_6 (by rw [hx9]; decide) (by rw [hx9]; decide) (by rw [hx9]; decide) (by decide) ?_
      refine ph_aload_n (n := 0) X hl dX8_count_155 rfl rfl ?_
      refine tw_getr 12 212 X hP q1782 dX8_count_156 ?_
      refine ph_iload_n (n := 1) X hl dX8_count_159 rfl rfl ?_
      refine lv_bipush (v := 14) X.1 X.2.1 dX8_count_160 (by decide) ?_
      refine lv_isub X.1 X.2.1 dX8_count_162 ?_
      obtain ⟨hr12, hF⟩ := hF
      refine tw_ald 12 (n := 3) X hP hr12 (k := (a1 - 14).toNatClampNeg) rfl dX8_count_163 ?_
      exact tw_iret X hP hF dX8_count_164
    · have hx9 : a1 = 16 := hs2.trans (by decide)
      have hF := hF.2.2.2.2.2.2.2.2.2.2.2.2.2.2.2.2.1 hx9
      refine lv_tableIn (tgt := 155) (off := 149) X.1 X.2.1 dX8_count_6 (by rw [hx9]; decide) (by rw [hx9]; decide) (by rw [hx9]; decide) (by decide) ?_
      refine ph_aload_n (n := 0) X hl dX8_count_155 rfl rfl ?_
      refine tw_getr 12 212 X hP q1782 dX8_count_156 ?_
      refine ph_iload_n (n := 1) X hl dX8_count_159 rfl rfl ?_
      refine lv_bipush (v := 14) X.1 X.2.1 dX8_count_160 (by decide) ?_
      refine lv_isub X.1 X.2.1 dX8_count_162 ?_
      obtain ⟨hr13, hF⟩ := hF
      refine tw_ald 12 (n := 3) X hP hr13 (k := (a1 - 14).toNatClampNeg) rfl dX8_count_163 ?_
      exact tw_iret X hP hF dX8_count_164
  · have hs2 : a1.toInt < 0 ∨ 16 < a1.toInt := by omega
    have hF := hF.2.2.2.2.2.2.2.2.2.2.2.2.2.2.2.2.2 hs2
    refine lv_tableOut (tgt := 165) X.1 X.2.1 dX8_count_6 hs2 (by decide) ?_
    refine ph_aload_n (n := 0) X hl dX8_count_165 rfl rfl ?_
    refine lv_iconst (v := 1) X.1 X.2.1 dX8_count_166 (by decide) ?_
    refine tw_callVi [iX 1] X hP (met_X8_fail l D dA ad _ _ hF) (cwV 1 X.2.2.2.2.1 (lw_V q2002 q2004 qs44 q126 q2005) rfl rfl rfl (by decide +kernel) ⟨Nat.le_of_ble_eq_true rfl, Nat.le_of_ble_eq_true rfl⟩) rfl hl (k8 := 0) (cs0 (k := 0)) (by decide) ⟨Nat.le_refl _, Nat.le_refl _⟩ dX8_count_167 rfl (fun r15 σ14 H locs hF hP => ?_)
    exact tw_iret X hP hF dX8_count_170
def P_X8_placeOf_2 (Q : Int32 → S → Prop) : Nat → Int32 → Int32 → S → Prop
  | 0, _, _, _ => False
  | n + 1, x1, x2, σ => (((σ 0 45) ≤ x2 → (Q x2 σ)) ∧ (¬ (σ 0 45) ≤ x2 → (vp_in x2 7 ∧ (((σ 18 x2.toNatClampNeg) = x1 → (Q x2 σ)) ∧ (¬ (σ 18 x2.toNatClampNeg) = x1 → (P_X8_placeOf_2 Q  n x1 (x2 + 1) σ))))))
def P_X8_placeOf (a1 : Int32) (σ : S) (Q : Int32 → S → Prop) : Prop := (∃ n9, P_X8_placeOf_2 Q n9 a1 0 σ)
set_option maxHeartbeats 2000000 in
theorem w_X8_placeOf_2 (X : CX p s m args c meth cX8_placeOf 3 (some .int) RX8 D dA ad A) {Q : Int32 → S → Prop} : ∀ (n : Nat) (x1 : Int32) (x2 : Int32) (σ : S) (H : Heap) (locs : List Loc) (ls : Array Slot), P_X8_placeOf_2 Q n x1 x2 σ → PW D dA A s.heap ad (TH σ) H locs → LH ad ls 3 [(0, pX 200), (1, iX x1), (2, iX x2)] → WTi p l e ({ frames := 0, cells := 0, slots := 0, locals := 0 } : Room) s m args below meth c D dA ad A Q H locs (F0 m 2 ls []) := by
  intro n
  induction n with
  | zero =>
    intro x1 x2 σ H locs ls hF
    exact hF.elim
  | succ n ih =>
    intro x1 x2 σ H locs ls hF hP hl
    rw [P_X8_placeOf_2] at hF
    refine ph_iload_n (n := 2) X hl dX8_placeOf_2 rfl rfl ?_
    refine ph_aload_n (n := 0) X hl dX8_placeOf_3 rfl rfl ?_
    refine tw_geti 45 X hP q1815 dX8_placeOf_4 ?_
    refine lv_icmp_ge (tgt := 26) X.1 X.2.1 dX8_placeOf_7 (by decide) (fun c3 => ?_) (fun c3 => ?_)
    · have hF := hF.1 c3
      refine ph_iload_n (n := 2) X hl dX8_placeOf_26 rfl rfl ?_
      exact tw_iret X hP hF dX8_placeOf_27
    · have hF := hF.2 c3
      refine ph_aload_n (n := 0) X hl dX8_placeOf_10 rfl rfl ?_
      refine tw_getr 34 218 X hP q1804 dX8_placeOf_11 ?_
      refine ph_iload_n (n := 2) X hl dX8_placeOf_14 rfl rfl ?_
      obtain ⟨hr1, hF⟩ := hF
      refine tw_ald 18 (n := 7) X hP hr1 (k := x2.toNatClampNeg) rfl dX8_placeOf_15 ?_
      refine ph_iload_n (n := 1) X hl dX8_placeOf_16 rfl rfl ?_
      refine lv_icmp_eq (tgt := 26) X.1 X.2.1 dX8_placeOf_17 (by decide) (fun c2 => ?_) (fun c2 => ?_)
      · have hF := hF.1 c2
        refine ph_iload_n (n := 2) X hl dX8_placeOf_26 rfl rfl ?_
        exact tw_iret X hP hF dX8_placeOf_27
      · have hF := hF.2 c2
        refine ph_iinc (v := x2 + 1) (k := 2) X hl dX8_placeOf_20 rfl rfl (by decide) rfl (fun ls hl => ?_)
        refine lv_goto (tgt := 2) X.1 X.2.1 dX8_placeOf_23 (by decide) ?_
        exact ih _ _ _ _ _ _ hF hP (lh_sub hl [1, 2, 0] rfl)
set_option maxHeartbeats 2000000 in
theorem met_X8_placeOf (l : Launch) (D : va_G) (dA : Nat → ClassId) (ad : Nat → Nat) (σ : S) (sz : Nat) {a1 : Int32} {Q : Int32 → S → Prop} (hF : P_X8_placeOf a1 σ Q) : CTi l yX8_placeOf cX8_placeOf 3 .int ({ frames := 0, cells := 0, slots := 0, locals := 0 } : Room) D dA ad σ sz [pX 200, iX a1] Q := by
  unfold P_X8_placeOf at hF
  refine ph_enter [pX 200, iX a1] (Qc := fun A => va_Qi (TQi Q) (CB D dA ad A) A) (by decide +kernel) (Nat.le_of_ble_eq_true rfl) ?_
  intro p e s m args below meth c A ls X hP hl hnm
  have hl : LH ad ls 3 [(0, pX 200), (1, iX a1)] := hl
  refine lv_iconst (v := 0) X.1 X.2.1 dX8_placeOf_0 (by decide) ?_
  refine ph_istore_n X hl dX8_placeOf_1 rfl (by decide) rfl (fun ls hl => ?_)
  obtain ⟨n9, hF⟩ := hF
  exact w_X8_placeOf_2 X n9 _ _ _ _ _ _ hF hP (lh_sub hl [1, 2, 0] rfl)
def P_X8_sleeper (a1 : Int32) (a2 : Int32) (σ : S) (Q : Int32 → S → Prop) : Prop := (∀ σ1, σ1 = up2 σ 0 2 0 → (P_X8_isSleeper a1 σ1 (fun r3 σ2 => ((¬ r3 = 0 → ((a2 = 0 → (vp_in a1 14 ∧ (Q (σ2 4 a1.toNatClampNeg) σ2))) ∧ (a2 = 1 → (vp_in (((2 * a1) + a2) - 1) 28 ∧ (Q (σ2 5 ((((2 * a1) + a2) - 1).toNatClampNeg)) σ2))) ∧ (a2 = 2 → (vp_in (((2 * a1) + a2) - 1) 28 ∧ (Q (σ2 5 ((((2 * a1) + a2) - 1).toNatClampNeg)) σ2))) ∧ (a2 = 3 → (vp_in a1 14 ∧ (Q (σ2 6 a1.toNatClampNeg) σ2))) ∧ (a2 = 4 → (vp_in a1 14 ∧ (Q (σ2 7 a1.toNatClampNeg) σ2))) ∧ (a2 = 5 → (vp_in a1 14 ∧ (Q (σ2 8 a1.toNatClampNeg) σ2))) ∧ (a2 = 6 → (vp_in a1 14 ∧ (Q (σ2 9 a1.toNatClampNeg) σ2))) ∧ (a2 = 7 → (P_X8_set σ2 (fun σ12 => (P_X8_placeOf a1 σ12 (fun r15 σ14 => (Q r15 σ14)))))) ∧ (a2 = 8 → (vp_in a1 14 ∧ (Q (σ2 10 a1.toNatClampNeg) σ2))) ∧ ((a2.toInt < 0 ∨ 8 < a2.toInt) → (P_X8_fail 1 σ2 (fun r18 σ17 => (Q r18 σ17)))))) ∧ (r3 = 0 → (P_X8_fail 1 σ2 (fun r20 σ19 => (Q r20 σ19))))))))
set_option maxHeartbeats 2000000 in
theorem met_X8_sleeper (l : Launch) (D : va_G) (dA : Nat → ClassId) (ad : Nat → Nat) (σ : S) (sz : Nat) {a1 : Int32} {a2 : Int32} {Q : Int32 → S → Prop} (hF : P_X8_sleeper a1 a2 σ Q) : CTi l yX8_sleeper cX8_sleeper 3 .int ({ frames := 2, cells := 0, slots := 0, locals := 46 } : Room) D dA ad σ sz [pX 200, iX a1, iX a2] Q := by
  unfold P_X8_sleeper at hF
  refine ph_enter [pX 200, iX a1, iX a2] (Qc := fun A => va_Qi (TQi Q) (CB D dA ad A) A) (by decide +kernel) (Nat.le_of_ble_eq_true rfl) ?_
  intro p e s m args below meth c A ls X hP hl hnm
  have hl : LH ad ls 3 [(0, pX 200), (1, iX a1), (2, iX a2)] := hl
  refine ph_aload_n (n := 0) X hl dX8_sleeper_0 rfl rfl ?_
  refine lv_iconst (v := 0) X.1 X.2.1 dX8_sleeper_1 (by decide) ?_
  refine tw_puti 2 X hP q1772 dX8_sleeper_2 hF (fun H locs σ1 hP hF => ?_)
  refine ph_aload_n (n := 0) X hl dX8_sleeper_5 rfl rfl ?_
  refine ph_iload_n (n := 1) X hl dX8_sleeper_6 rfl rfl ?_
  refine tw_callVi [iX a1] X hP (met_X8_isSleeper l D dA ad _ _ hF) (cwV 1 X.2.2.2.2.1 (lw_V q2140 q2142 qs69 q126 q2143) rfl rfl rfl (by decide +kernel) ⟨Nat.le_of_ble_eq_true rfl, Nat.le_of_ble_eq_true rfl⟩) rfl hl (k8 := 0) (cs0 (k := 0)) (by decide) ⟨Nat.le_refl _, Nat.le_refl _⟩ dX8_sleeper_7 rfl (fun r3 σ2 H locs hF hP => ?_)
  refine lv_if_ne (tgt := 19) X.1 X.2.1 dX8_sleeper_10 (by decide) (fun c21 => ?_) (fun c21 => ?_)
  · have hF := hF.1 c21
    refine ph_iload_n (n := 2) X hl dX8_sleeper_19 rfl rfl ?_
    rcases ts_cases a2 0 9 with ⟨j9, hs4⟩ | hs4
    · obtain ⟨hj9, hs4⟩ := hs4
      rcases ts_lt9 hj9 with rfl | rfl | rfl | rfl | rfl | rfl | rfl | rfl | rfl
      · have hx9 : a2 = 0 := hs4.trans (by decide)
        have hF := hF.1 hx9
        refine lv_tableIn (tgt := 72) (off := 52) X.1 X.2.1 dX8_sleeper_20 (by rw [hx9]; decide) (by rw [hx9]; decide) (by rw [hx9]; decide) (by decide) ?_
        refine ph_aload_n (n := 0) X hl dX8_sleeper_72 rfl rfl ?_
        refine tw_getr 4 204 X hP q1774 dX8_sleeper_73 ?_
        refine ph_iload_n (n := 1) X hl dX8_sleeper_76 rfl rfl ?_
        obtain ⟨hr5, hF⟩ := hF
        refine tw_ald 4 (n := 14) X hP hr5 (k := a1.toNatClampNeg) rfl dX8_sleeper_77 ?_
        exact tw_iret X hP hF dX8_sleeper_78
      · have hx9 : a2 = 1 := hs4.trans (by decide)
        have hF := hF.2.1 hx9
        refine lv_tableIn (tgt := 79) (off := 59) X.1 X.2.1 dX8_sleeper_20 (by rw [hx9]; decide) (by rw [hx9]; decide) (by rw [hx9]; decide) (by decide) ?_
        refine ph_aload_n (n := 0) X hl dX8_sleeper_79 rfl rfl ?_
        refine tw_getr 5 205 X hP q1775 dX8_sleeper_80 ?_
        refine lv_iconst (v := 2) X.1 X.2.1 dX8_sleeper_83 (by decide) ?_
        refine ph_iload_n (n := 1) X hl dX8_sleeper_84 rfl rfl ?_
        refine lv_imul X.1 X.2.1 dX8_sleeper_85 ?_
        refine ph_iload_n (n := 2) X hl dX8_sleeper_86 rfl rfl ?_
        refine lv_iadd X.1 X.2.1 dX8_sleeper_87 ?_
        refine lv_iconst (v := 1) X.1 X.2.1 dX8_sleeper_88 (by decide) ?_
        refine lv_isub X.1 X.2.1 dX8_sleeper_89 ?_
        obtain ⟨hr6, hF⟩ := hF
        refine tw_ald 5 (n := 28) X hP hr6 (k := (((2 * a1) + a2) - 1).toNatClampNeg) rfl dX8_sleeper_90 ?_
        exact tw_iret X hP hF dX8_sleeper_91
      · have hx9 : a2 = 2 := hs4.trans (by decide)
        have hF := hF.2.2.1 hx9
        refine lv_tableIn (tgt := 79) (off := 59) X.1 X.2.1 dX8_sleeper_20 (by rw [hx9]; decide) (by rw [hx9]; decide) (by rw [hx9]; decide) (by decide) ?_
        refine ph_aload_n (n := 0) X hl dX8_sleeper_79 rfl rfl ?_
        refine tw_getr 5 205 X hP q1775 dX8_sleeper_80 ?_
        refine lv_iconst (v := 2) X.1 X.2.1 dX8_sleeper_83 (by decide) ?_
        refine ph_iload_n (n := 1) X hl dX8_sleeper_84 rfl rfl ?_
        refine lv_imul X.1 X.2.1 dX8_sleeper_85 ?_
        refine ph_iload_n (n := 2) X hl dX8_sleeper_86 rfl rfl ?_
        refine lv_iadd X.1 X.2.1 dX8_sleeper_87 ?_
        refine lv_iconst (v := 1) X.1 X.2.1 dX8_sleeper_88 (by decide) ?_
        refine lv_isub X.1 X.2.1 dX8_sleeper_89 ?_
        obtain ⟨hr7, hF⟩ := hF
        refine tw_ald 5 (n := 28) X hP hr7 (k := (((2 * a1) + a2) - 1).toNatClampNeg) rfl dX8_sleeper_90 ?_
        exact tw_iret X hP hF dX8_sleeper_91
      · have hx9 : a2 = 3 := hs4.trans (by decide)
        have hF := hF.2.2.2.1 hx9
        refine lv_tableIn (tgt := 92) (off := 72) X.1 X.2.1 dX8_sleeper_20 (by rw [hx9]; decide) (by rw [hx9]; decide) (by rw [hx9]; decide) (by decide) ?_
        refine ph_aload_n (n := 0) X hl dX8_sleeper_92 rfl rfl ?_
        refine tw_getr 6 206 X hP q1776 dX8_sleeper_93 ?_
        refine ph_iload_n (n := 1) X hl dX8_sleeper_96 rfl rfl ?_
        obtain ⟨hr8, hF⟩ := hF
        refine tw_ald 6 (n := 14) X hP hr8 (k := a1.toNatClampNeg) rfl dX8_sleeper_97 ?_
        exact tw_iret X hP hF dX8_sleeper_98
      · have hx9 : a2 = 4 := hs4.trans (by decide)
        have hF := hF.2.2.2.2.1 hx9
        refine lv_tableIn (tgt := 99) (off := 79) X.1 X.2.1 dX8_sleeper_20 (by rw [hx9]; decide) (by rw [hx9]; decide) (by rw [hx9]; decide) (by decide) ?_
        refine ph_aload_n (n := 0) X hl dX8_sleeper_99 rfl rfl ?_
        refine tw_getr 7 207 X hP q1777 dX8_sleeper_100 ?_
        refine ph_iload_n (n := 1) X hl dX8_sleeper_103 rfl rfl ?_
        obtain ⟨hr9, hF⟩ := hF
        refine tw_ald 7 (n := 14) X hP hr9 (k := a1.toNatClampNeg) rfl dX8_sleeper_104 ?_
        exact tw_iret X hP hF dX8_sleeper_105
      · have hx9 : a2 = 5 := hs4.trans (by decide)
        have hF := hF.2.2.2.2.2.1 hx9
        refine lv_tableIn (tgt := 106) (off := 86) X.1 X.2.1 dX8_sleeper_20 (by rw [hx9]; decide) (by rw [hx9]; decide) (by rw [hx9]; decide) (by decide) ?_
        refine ph_aload_n (n := 0) X hl dX8_sleeper_106 rfl rfl ?_
        refine tw_getr 8 208 X hP q1778 dX8_sleeper_107 ?_
        refine ph_iload_n (n := 1) X hl dX8_sleeper_110 rfl rfl ?_
        obtain ⟨hr10, hF⟩ := hF
        refine tw_ald 8 (n := 14) X hP hr10 (k := a1.toNatClampNeg) rfl dX8_sleeper_111 ?_
        exact tw_iret X hP hF dX8_sleeper_112
      · have hx9 : a2 = 6 := hs4.trans (by decide)
        have hF := hF.2.2.2.2.2.2.1 hx9
        refine lv_tableIn (tgt := 113) (off := 93) X.1 X.2.1 dX8_sleeper_20 (by rw [hx9]; decide) (by rw [hx9]; decide) (by rw [hx9]; decide) (by decide) ?_
        refine ph_aload_n (n := 0) X hl dX8_sleeper_113 rfl rfl ?_
        refine tw_getr 9 209 X hP q1779 dX8_sleeper_114 ?_
        refine ph_iload_n (n := 1) X hl dX8_sleeper_117 rfl rfl ?_
        obtain ⟨hr11, hF⟩ := hF
        refine tw_ald 9 (n := 14) X hP hr11 (k := a1.toNatClampNeg) rfl dX8_sleeper_118 ?_
        exact tw_iret X hP hF dX8_sleeper_119
      · have hx9 : a2 = 7 := hs4.trans (by decide)
        have hF := hF.2.2.2.2.2.2.2.1 hx9
        refine lv_tableIn (tgt := 120) (off := 100) X.1 X.2.1 dX8_sleeper_20 (by rw [hx9]; decide) (by rw [hx9]; decide) (by rw [hx9]; decide) (by decide) ?_
        refine ph_aload_n (n := 0) X hl dX8_sleeper_120 rfl rfl ?_
        refine tw_callVv [] X hP (met_X8_set l D dA ad _ _ hF) (cwV 0 X.2.2.2.2.1 (lw_V q2128 q2130 qs67 q126 q2131) rfl rfl rfl (by decide +kernel) ⟨Nat.le_of_ble_eq_true rfl, Nat.le_of_ble_eq_true rfl⟩) rfl hl (k8 := 0) (cs0 (k := 0)) (by decide) ⟨Nat.le_refl _, Nat.le_refl _⟩ dX8_sleeper_121 rfl (fun σ12 H locs hF hP => ?_)
        refine ph_aload_n (n := 0) X hl dX8_sleeper_124 rfl rfl ?_
        refine ph_iload_n (n := 1) X hl dX8_sleeper_125 rfl rfl ?_
        refine tw_callVi [iX a1] X hP (met_X8_placeOf l D dA ad _ _ hF) (cwV 1 X.2.2.2.2.1 (lw_V q2147 q2149 qs70 q126 q2150) rfl rfl rfl (by decide +kernel) ⟨Nat.le_of_ble_eq_true rfl, Nat.le_of_ble_eq_true rfl⟩) rfl hl (k8 := 0) (cs0 (k := 0)) (by decide) ⟨Nat.le_refl _, Nat.le_refl _⟩ dX8_sleeper_126 rfl (fun r15 σ14 H locs hF hP => ?_)
        exact tw_iret X hP hF dX8_sleeper_129
      · have hx9 : a2 = 8 := hs4.trans (by decide)
        have hF := hF.2.2.2.2.2.2.2.2.1 hx9
        refine lv_tableIn (tgt := 130) (off := 110) X.1 X.2.1 dX8_sleeper_20 (by rw [hx9]; decide) (by rw [hx9]; decide) (by rw [hx9]; decide) (by decide) ?_
        refine ph_aload_n (n := 0) X hl dX8_sleeper_130 rfl rfl ?_
        refine tw_getr 10 210 X hP q1780 dX8_sleeper_131 ?_
        refine ph_iload_n (n := 1) X hl dX8_sleeper_134 rfl rfl ?_
        obtain ⟨hr16, hF⟩ := hF
        refine tw_ald 10 (n := 14) X hP hr16 (k := a1.toNatClampNeg) rfl dX8_sleeper_135 ?_
        exact tw_iret X hP hF dX8_sleeper_136
    · have hs4 : a2.toInt < 0 ∨ 8 < a2.toInt := by omega
      have hF := hF.2.2.2.2.2.2.2.2.2 hs4
      refine lv_tableOut (tgt := 137) X.1 X.2.1 dX8_sleeper_20 hs4 (by decide) ?_
      refine ph_aload_n (n := 0) X hl dX8_sleeper_137 rfl rfl ?_
      refine lv_iconst (v := 1) X.1 X.2.1 dX8_sleeper_138 (by decide) ?_
      refine tw_callVi [iX 1] X hP (met_X8_fail l D dA ad _ _ hF) (cwV 1 X.2.2.2.2.1 (lw_V q2002 q2004 qs44 q126 q2005) rfl rfl rfl (by decide +kernel) ⟨Nat.le_of_ble_eq_true rfl, Nat.le_of_ble_eq_true rfl⟩) rfl hl (k8 := 0) (cs0 (k := 0)) (by decide) ⟨Nat.le_refl _, Nat.le_refl _⟩ dX8_sleeper_139 rfl (fun r18 σ17 H locs hF hP => ?_)
      exact tw_iret X hP hF dX8_sleeper_142
  · have hF := hF.2 c21
    refine ph_aload_n (n := 0) X hl dX8_sleeper_13 rfl rfl ?_
    refine lv_iconst (v := 1) X.1 X.2.1 dX8_sleeper_14 (by decide) ?_
    refine tw_callVi [iX 1] X hP (met_X8_fail l D dA ad _ _ hF) (cwV 1 X.2.2.2.2.1 (lw_V q2002 q2004 qs44 q126 q2005) rfl rfl rfl (by decide +kernel) ⟨Nat.le_of_ble_eq_true rfl, Nat.le_of_ble_eq_true rfl⟩) rfl hl (k8 := 0) (cs0 (k := 0)) (by decide) ⟨Nat.le_refl _, Nat.le_refl _⟩ dX8_sleeper_15 rfl (fun r20 σ19 H locs hF hP => ?_)
    exact tw_iret X hP hF dX8_sleeper_18
def P_X8_pack_2 (Q : S → Prop) : Nat → Nat → Int32 → Int32 → S → Prop
  | 0, _, _, _, _ => False
  | n + 1, x1, x2, x3, σ => ((7 ≤ x3 → ((tK x1 = 100 ∧ vp_in (x2 + 14) (tL x1)) ∧ (∀ σ1, σ1 = up2 σ (x1 - 200) ((x2 + 14).toNatClampNeg) (σ 0 26) → ((tK x1 = 100 ∧ vp_in ((x2 + 14) + 1) (tL x1)) ∧ (∀ σ3, σ3 = up2 σ1 (x1 - 200) (((x2 + 14) + 1).toNatClampNeg) (σ1 0 27) → ((tK x1 = 100 ∧ vp_in ((x2 + 14) + 2) (tL x1)) ∧ (∀ σ5, σ5 = up2 σ3 (x1 - 200) (((x2 + 14) + 2).toNatClampNeg) (σ3 0 28) → ((tK x1 = 100 ∧ vp_in ((x2 + 14) + 3) (tL x1)) ∧ (∀ σ7, σ7 = up2 σ5 (x1 - 200) (((x2 + 14) + 3).toNatClampNeg) (σ5 0 29) → (Q σ7)))))))))) ∧ (¬ 7 ≤ x3 → (vp_in x3 7 ∧ ((tK x1 = 100 ∧ vp_in (x2 + x3) (tL x1)) ∧ (∀ σ10, σ10 = up2 σ (x1 - 200) ((x2 + x3).toNatClampNeg) (σ 14 x3.toNatClampNeg) → (vp_in x3 14 ∧ ((tK x1 = 100 ∧ vp_in ((x2 + 7) + x3) (tL x1)) ∧ (∀ σ13, σ13 = up2 σ10 (x1 - 200) (((x2 + 7) + x3).toNatClampNeg) (σ10 8 x3.toNatClampNeg) → (P_X8_pack_2 Q  n x1 x2 (x3 + 1) σ13)))))))))
def P_X8_pack (a1 : Nat) (a2 : Int32) (σ : S) (Q : S → Prop) : Prop := (∃ n9, P_X8_pack_2 Q n9 a1 a2 0 σ)
set_option maxHeartbeats 2000000 in
theorem w_X8_pack_2 (X : CX p s m args c meth cX8_pack 4 none RX8 D dA ad A) {Q : S → Prop} : ∀ (n : Nat) (x1 : Nat) (x2 : Int32) (x3 : Int32) (σ : S) (H : Heap) (locs : List Loc) (ls : Array Slot), P_X8_pack_2 Q n x1 x2 x3 σ → PW D dA A s.heap ad (TH σ) H locs → LH ad ls 4 [(0, pX 200), (1, pX x1), (2, iX x2), (3, iX x3)] → WTv p l e ({ frames := 0, cells := 0, slots := 0, locals := 0 } : Room) s m args below meth c D dA ad A Q H locs (F0 m 2 ls []) := by
  intro n
  induction n with
  | zero =>
    intro x1 x2 x3 σ H locs ls hF
    exact hF.elim
  | succ n ih =>
    intro x1 x2 x3 σ H locs ls hF hP hl
    rw [P_X8_pack_2] at hF
    refine ph_iload_n (n := 3) X hl dX8_pack_2 rfl rfl ?_
    refine lv_bipush (v := 7) X.1 X.2.1 dX8_pack_3 (by decide) ?_
    refine lv_icmp_ge (tgt := 39) X.1 X.2.1 dX8_pack_5 (by decide) (fun c15 => ?_) (fun c15 => ?_)
    · have hF := hF.1 c15
      refine ph_iload_n (n := 2) X hl dX8_pack_39 rfl rfl ?_
      refine lv_bipush (v := 14) X.1 X.2.1 dX8_pack_40 (by decide) ?_
      refine lv_iadd X.1 X.2.1 dX8_pack_42 ?_
      refine ph_istore_n X hl dX8_pack_43 rfl (by decide) rfl (fun ls hl => ?_)
      refine ph_aload_n (n := 2) X hl dX8_pack_44 rfl rfl ?_
      refine ph_iload_n (n := 0) X hl dX8_pack_45 rfl rfl ?_
      refine ph_aload_n (n := 1) X hl dX8_pack_46 rfl rfl ?_
      refine tw_geti 26 X hP q1796 dX8_pack_47 ?_
      obtain ⟨hr2, hF⟩ := hF
      refine tw_astd X hP hr2.1 hr2.2 (k := (x2 + 14).toNatClampNeg) rfl dX8_pack_50 hF (fun H locs σ1 hP hF => ?_)
      refine ph_aload_n (n := 2) X hl dX8_pack_51 rfl rfl ?_
      refine ph_iload_n (n := 0) X hl dX8_pack_52 rfl rfl ?_
      refine lv_iconst (v := 1) X.1 X.2.1 dX8_pack_53 (by decide) ?_
      refine lv_iadd X.1 X.2.1 dX8_pack_54 ?_
      refine ph_aload_n (n := 1) X hl dX8_pack_55 rfl rfl ?_
      refine tw_geti 27 X hP q1797 dX8_pack_56 ?_
      obtain ⟨hr4, hF⟩ := hF
      refine tw_astd X hP hr4.1 hr4.2 (k := ((x2 + 14) + 1).toNatClampNeg) rfl dX8_pack_59 hF (fun H locs σ3 hP hF => ?_)
      refine ph_aload_n (n := 2) X hl dX8_pack_60 rfl rfl ?_
      refine ph_iload_n (n := 0) X hl dX8_pack_61 rfl rfl ?_
      refine lv_iconst (v := 2) X.1 X.2.1 dX8_pack_62 (by decide) ?_
      refine lv_iadd X.1 X.2.1 dX8_pack_63 ?_
      refine ph_aload_n (n := 1) X hl dX8_pack_64 rfl rfl ?_
      refine tw_geti 28 X hP q1798 dX8_pack_65 ?_
      obtain ⟨hr6, hF⟩ := hF
      refine tw_astd X hP hr6.1 hr6.2 (k := ((x2 + 14) + 2).toNatClampNeg) rfl dX8_pack_68 hF (fun H locs σ5 hP hF => ?_)
      refine ph_aload_n (n := 2) X hl dX8_pack_69 rfl rfl ?_
      refine ph_iload_n (n := 0) X hl dX8_pack_70 rfl rfl ?_
      refine lv_iconst (v := 3) X.1 X.2.1 dX8_pack_71 (by decide) ?_
      refine lv_iadd X.1 X.2.1 dX8_pack_72 ?_
      refine ph_aload_n (n := 1) X hl dX8_pack_73 rfl rfl ?_
      refine tw_geti 29 X hP q1799 dX8_pack_74 ?_
      obtain ⟨hr8, hF⟩ := hF
      refine tw_astd X hP hr8.1 hr8.2 (k := ((x2 + 14) + 3).toNatClampNeg) rfl dX8_pack_77 hF (fun H locs σ7 hP hF => ?_)
      exact tw_vret X hP hF dX8_pack_78
    · have hF := hF.2 c15
      refine ph_aload_n (n := 1) X hl dX8_pack_8 rfl rfl ?_
      refine ph_iload_n (n := 2) X hl dX8_pack_9 rfl rfl ?_
      refine ph_iload_n (n := 3) X hl dX8_pack_10 rfl rfl ?_
      refine lv_iadd X.1 X.2.1 dX8_pack_11 ?_
      refine ph_aload_n (n := 0) X hl dX8_pack_12 rfl rfl ?_
      refine tw_getr 24 214 X hP q1794 dX8_pack_13 ?_
      refine ph_iload_n (n := 3) X hl dX8_pack_16 rfl rfl ?_
      obtain ⟨hr9, hF⟩ := hF
      refine tw_ald 14 (n := 7) X hP hr9 (k := x3.toNatClampNeg) rfl dX8_pack_17 ?_
      obtain ⟨hr11, hF⟩ := hF
      refine tw_astd X hP hr11.1 hr11.2 (k := (x2 + x3).toNatClampNeg) rfl dX8_pack_18 hF (fun H locs σ10 hP hF => ?_)
      refine ph_aload_n (n := 1) X hl dX8_pack_19 rfl rfl ?_
      refine ph_iload_n (n := 2) X hl dX8_pack_20 rfl rfl ?_
      refine lv_bipush (v := 7) X.1 X.2.1 dX8_pack_21 (by decide) ?_
      refine lv_iadd X.1 X.2.1 dX8_pack_23 ?_
      refine ph_iload_n (n := 3) X hl dX8_pack_24 rfl rfl ?_
      refine lv_iadd X.1 X.2.1 dX8_pack_25 ?_
      refine ph_aload_n (n := 0) X hl dX8_pack_26 rfl rfl ?_
      refine tw_getr 8 208 X hP q1778 dX8_pack_27 ?_
      refine ph_iload_n (n := 3) X hl dX8_pack_30 rfl rfl ?_
      obtain ⟨hr12, hF⟩ := hF
      refine tw_ald 8 (n := 14) X hP hr12 (k := x3.toNatClampNeg) rfl dX8_pack_31 ?_
      obtain ⟨hr14, hF⟩ := hF
      refine tw_astd X hP hr14.1 hr14.2 (k := ((x2 + 7) + x3).toNatClampNeg) rfl dX8_pack_32 hF (fun H locs σ13 hP hF => ?_)
      refine ph_iinc (v := x3 + 1) (k := 3) X hl dX8_pack_33 rfl rfl (by decide) rfl (fun ls hl => ?_)
      refine lv_goto (tgt := 2) X.1 X.2.1 dX8_pack_36 (by decide) ?_
      exact ih _ _ _ _ _ _ _ hF hP (lh_sub hl [1, 2, 3, 0] rfl)
set_option maxHeartbeats 2000000 in
theorem met_X8_pack (l : Launch) (D : va_G) (dA : Nat → ClassId) (ad : Nat → Nat) (σ : S) (sz : Nat) {a1 : Nat} {a2 : Int32} {Q : S → Prop} (hF : P_X8_pack a1 a2 σ Q) : CTv l yX8_pack cX8_pack 4 ({ frames := 0, cells := 0, slots := 0, locals := 0 } : Room) D dA ad σ sz [pX 200, pX a1, iX a2] Q := by
  unfold P_X8_pack at hF
  refine ph_enter [pX 200, pX a1, iX a2] (Qc := fun A => va_Qv (TQv Q) (CB D dA ad A) A) (by decide +kernel) (Nat.le_of_ble_eq_true rfl) ?_
  intro p e s m args below meth c A ls X hP hl hnm
  have hl : LH ad ls 4 [(0, pX 200), (1, pX a1), (2, iX a2)] := hl
  refine lv_iconst (v := 0) X.1 X.2.1 dX8_pack_0 (by decide) ?_
  refine ph_istore_n X hl dX8_pack_1 rfl (by decide) rfl (fun ls hl => ?_)
  obtain ⟨n9, hF⟩ := hF
  exact w_X8_pack_2 X n9 _ _ _ _ _ _ _ hF hP (lh_sub hl [1, 2, 3, 0] rfl)
def P_X8_unpack_2 (Q : S → Prop) : Nat → Nat → Int32 → Int32 → S → Prop
  | 0, _, _, _, _ => False
  | n + 1, x1, x2, x3, σ => ((7 ≤ x3 → ((tK x1 = 100 ∧ vp_in (x2 + 14) (tL x1)) ∧ (∀ σ2, σ2 = up2 σ 0 26 (σ (x1 - 200) ((x2 + 14).toNatClampNeg)) → ((tK x1 = 100 ∧ vp_in ((x2 + 14) + 1) (tL x1)) ∧ (∀ σ4, σ4 = up2 σ2 0 27 (σ2 (x1 - 200) (((x2 + 14) + 1).toNatClampNeg)) → ((tK x1 = 100 ∧ vp_in ((x2 + 14) + 2) (tL x1)) ∧ (∀ σ6, σ6 = up2 σ4 0 28 (σ4 (x1 - 200) (((x2 + 14) + 2).toNatClampNeg)) → ((tK x1 = 100 ∧ vp_in ((x2 + 14) + 3) (tL x1)) ∧ (∀ σ8, σ8 = up2 σ6 0 29 (σ6 (x1 - 200) (((x2 + 14) + 3).toNatClampNeg)) → (Q σ8)))))))))) ∧ (¬ 7 ≤ x3 → ((tK x1 = 100 ∧ vp_in (x2 + x3) (tL x1)) ∧ (vp_in x3 7 ∧ (∀ σ10, σ10 = up2 σ 14 x3.toNatClampNeg (σ (x1 - 200) ((x2 + x3).toNatClampNeg)) → ((tK x1 = 100 ∧ vp_in ((x2 + 7) + x3) (tL x1)) ∧ (vp_in x3 14 ∧ (∀ σ13, σ13 = up2 σ10 8 x3.toNatClampNeg (σ10 (x1 - 200) (((x2 + 7) + x3).toNatClampNeg)) → (P_X8_unpack_2 Q  n x1 x2 (x3 + 1) σ13)))))))))
def P_X8_unpack (a1 : Nat) (a2 : Int32) (σ : S) (Q : S → Prop) : Prop := (∃ n9, P_X8_unpack_2 Q n9 a1 a2 0 σ)
set_option maxHeartbeats 2000000 in
theorem w_X8_unpack_2 (X : CX p s m args c meth cX8_unpack 4 none RX8 D dA ad A) {Q : S → Prop} : ∀ (n : Nat) (x1 : Nat) (x2 : Int32) (x3 : Int32) (σ : S) (H : Heap) (locs : List Loc) (ls : Array Slot), P_X8_unpack_2 Q n x1 x2 x3 σ → PW D dA A s.heap ad (TH σ) H locs → LH ad ls 4 [(0, pX 200), (1, pX x1), (2, iX x2), (3, iX x3)] → WTv p l e ({ frames := 0, cells := 0, slots := 0, locals := 0 } : Room) s m args below meth c D dA ad A Q H locs (F0 m 2 ls []) := by
  intro n
  induction n with
  | zero =>
    intro x1 x2 x3 σ H locs ls hF
    exact hF.elim
  | succ n ih =>
    intro x1 x2 x3 σ H locs ls hF hP hl
    rw [P_X8_unpack_2] at hF
    refine ph_iload_n (n := 3) X hl dX8_unpack_2 rfl rfl ?_
    refine lv_bipush (v := 7) X.1 X.2.1 dX8_unpack_3 (by decide) ?_
    refine lv_icmp_ge (tgt := 39) X.1 X.2.1 dX8_unpack_5 (by decide) (fun c15 => ?_) (fun c15 => ?_)
    · have hF := hF.1 c15
      refine ph_iload_n (n := 2) X hl dX8_unpack_39 rfl rfl ?_
      refine lv_bipush (v := 14) X.1 X.2.1 dX8_unpack_40 (by decide) ?_
      refine lv_iadd X.1 X.2.1 dX8_unpack_42 ?_
      refine ph_istore_n X hl dX8_unpack_43 rfl (by decide) rfl (fun ls hl => ?_)
      refine ph_aload_n (n := 1) X hl dX8_unpack_44 rfl rfl ?_
      refine ph_aload_n (n := 2) X hl dX8_unpack_45 rfl rfl ?_
      refine ph_iload_n (n := 0) X hl dX8_unpack_46 rfl rfl ?_
      obtain ⟨hr1, hF⟩ := hF
      refine tw_aldd X hP hr1.1 hr1.2 (k := (x2 + 14).toNatClampNeg) rfl dX8_unpack_47 ?_
      refine tw_puti 26 X hP q1796 dX8_unpack_48 hF (fun H locs σ2 hP hF => ?_)
      refine ph_aload_n (n := 1) X hl dX8_unpack_51 rfl rfl ?_
      refine ph_aload_n (n := 2) X hl dX8_unpack_52 rfl rfl ?_
      refine ph_iload_n (n := 0) X hl dX8_unpack_53 rfl rfl ?_
      refine lv_iconst (v := 1) X.1 X.2.1 dX8_unpack_54 (by decide) ?_
      refine lv_iadd X.1 X.2.1 dX8_unpack_55 ?_
      obtain ⟨hr3, hF⟩ := hF
      refine tw_aldd X hP hr3.1 hr3.2 (k := ((x2 + 14) + 1).toNatClampNeg) rfl dX8_unpack_56 ?_
      refine tw_puti 27 X hP q1797 dX8_unpack_57 hF (fun H locs σ4 hP hF => ?_)
      refine ph_aload_n (n := 1) X hl dX8_unpack_60 rfl rfl ?_
      refine ph_aload_n (n := 2) X hl dX8_unpack_61 rfl rfl ?_
      refine ph_iload_n (n := 0) X hl dX8_unpack_62 rfl rfl ?_
      refine lv_iconst (v := 2) X.1 X.2.1 dX8_unpack_63 (by decide) ?_
      refine lv_iadd X.1 X.2.1 dX8_unpack_64 ?_
      obtain ⟨hr5, hF⟩ := hF
      refine tw_aldd X hP hr5.1 hr5.2 (k := ((x2 + 14) + 2).toNatClampNeg) rfl dX8_unpack_65 ?_
      refine tw_puti 28 X hP q1798 dX8_unpack_66 hF (fun H locs σ6 hP hF => ?_)
      refine ph_aload_n (n := 1) X hl dX8_unpack_69 rfl rfl ?_
      refine ph_aload_n (n := 2) X hl dX8_unpack_70 rfl rfl ?_
      refine ph_iload_n (n := 0) X hl dX8_unpack_71 rfl rfl ?_
      refine lv_iconst (v := 3) X.1 X.2.1 dX8_unpack_72 (by decide) ?_
      refine lv_iadd X.1 X.2.1 dX8_unpack_73 ?_
      obtain ⟨hr7, hF⟩ := hF
      refine tw_aldd X hP hr7.1 hr7.2 (k := ((x2 + 14) + 3).toNatClampNeg) rfl dX8_unpack_74 ?_
      refine tw_puti 29 X hP q1799 dX8_unpack_75 hF (fun H locs σ8 hP hF => ?_)
      exact tw_vret X hP hF dX8_unpack_78
    · have hF := hF.2 c15
      refine ph_aload_n (n := 0) X hl dX8_unpack_8 rfl rfl ?_
      refine tw_getr 24 214 X hP q1794 dX8_unpack_9 ?_
      refine ph_iload_n (n := 3) X hl dX8_unpack_12 rfl rfl ?_
      refine ph_aload_n (n := 1) X hl dX8_unpack_13 rfl rfl ?_
      refine ph_iload_n (n := 2) X hl dX8_unpack_14 rfl rfl ?_
      refine ph_iload_n (n := 3) X hl dX8_unpack_15 rfl rfl ?_
      refine lv_iadd X.1 X.2.1 dX8_unpack_16 ?_
      obtain ⟨hr9, hF⟩ := hF
      refine tw_aldd X hP hr9.1 hr9.2 (k := (x2 + x3).toNatClampNeg) rfl dX8_unpack_17 ?_
      obtain ⟨hr11, hF⟩ := hF
      refine tw_ast 14 (n := 7) X hP hr11 (k := x3.toNatClampNeg) rfl dX8_unpack_18 hF (fun H locs σ10 hP hF => ?_)
      refine ph_aload_n (n := 0) X hl dX8_unpack_19 rfl rfl ?_
      refine tw_getr 8 208 X hP q1778 dX8_unpack_20 ?_
      refine ph_iload_n (n := 3) X hl dX8_unpack_23 rfl rfl ?_
      refine ph_aload_n (n := 1) X hl dX8_unpack_24 rfl rfl ?_
      refine ph_iload_n (n := 2) X hl dX8_unpack_25 rfl rfl ?_
      refine lv_bipush (v := 7) X.1 X.2.1 dX8_unpack_26 (by decide) ?_
      refine lv_iadd X.1 X.2.1 dX8_unpack_28 ?_
      refine ph_iload_n (n := 3) X hl dX8_unpack_29 rfl rfl ?_
      refine lv_iadd X.1 X.2.1 dX8_unpack_30 ?_
      obtain ⟨hr12, hF⟩ := hF
      refine tw_aldd X hP hr12.1 hr12.2 (k := ((x2 + 7) + x3).toNatClampNeg) rfl dX8_unpack_31 ?_
      obtain ⟨hr14, hF⟩ := hF
      refine tw_ast 8 (n := 14) X hP hr14 (k := x3.toNatClampNeg) rfl dX8_unpack_32 hF (fun H locs σ13 hP hF => ?_)
      refine ph_iinc (v := x3 + 1) (k := 3) X hl dX8_unpack_33 rfl rfl (by decide) rfl (fun ls hl => ?_)
      refine lv_goto (tgt := 2) X.1 X.2.1 dX8_unpack_36 (by decide) ?_
      exact ih _ _ _ _ _ _ _ hF hP (lh_sub hl [1, 2, 3, 0] rfl)
set_option maxHeartbeats 2000000 in
theorem met_X8_unpack (l : Launch) (D : va_G) (dA : Nat → ClassId) (ad : Nat → Nat) (σ : S) (sz : Nat) {a1 : Nat} {a2 : Int32} {Q : S → Prop} (hF : P_X8_unpack a1 a2 σ Q) : CTv l yX8_unpack cX8_unpack 4 ({ frames := 0, cells := 0, slots := 0, locals := 0 } : Room) D dA ad σ sz [pX 200, pX a1, iX a2] Q := by
  unfold P_X8_unpack at hF
  refine ph_enter [pX 200, pX a1, iX a2] (Qc := fun A => va_Qv (TQv Q) (CB D dA ad A) A) (by decide +kernel) (Nat.le_of_ble_eq_true rfl) ?_
  intro p e s m args below meth c A ls X hP hl hnm
  have hl : LH ad ls 4 [(0, pX 200), (1, pX a1), (2, iX a2)] := hl
  refine lv_iconst (v := 0) X.1 X.2.1 dX8_unpack_0 (by decide) ?_
  refine ph_istore_n X hl dX8_unpack_1 rfl (by decide) rfl (fun ls hl => ?_)
  obtain ⟨n9, hF⟩ := hF
  exact w_X8_unpack_2 X n9 _ _ _ _ _ _ _ hF hP (lh_sub hl [1, 2, 3, 0] rfl)
def P_X8_keep_52 (Q : S → Prop)  (σ : S) : Prop := (P_X8_pack 215 (18 * (σ 0 30)) σ (fun σ1 => (∀ σ3, σ3 = up2 σ1 0 30 ((σ1 0 30) + 1) → (Q σ3))))
def P_X8_keep_12 (Q : S → Prop) : Nat → Int32 → S → Prop
  | 0, _, _ => False
  | n + 1, x1, σ => ((720 ≤ x1 → (∀ σ4, σ4 = up2 σ 0 30 ((σ 0 30) - 1) → (P_X8_keep_52 Q σ4))) ∧ (¬ 720 ≤ x1 → (vp_in x1 720 ∧ (vp_in (x1 - 18) 720 ∧ (∀ σ6, σ6 = up2 σ 15 ((x1 - 18).toNatClampNeg) (σ 15 x1.toNatClampNeg) → (P_X8_keep_12 Q  n (x1 + 1) σ6))))))
def P_X8_keep  (σ : S) (Q : S → Prop) : Prop := ((¬ (σ 0 30) = 40 → (P_X8_keep_52 Q σ)) ∧ ((σ 0 30) = 40 → (∃ n9, P_X8_keep_12 Q n9 18 σ)))
set_option maxHeartbeats 2000000 in
theorem w_X8_keep_52 (X : CX p s m args c meth cX8_keep 2 none RX8 D dA ad A) {Q : S → Prop} : ∀  (σ : S) (H : Heap) (locs : List Loc) (ls : Array Slot), P_X8_keep_52 Q  σ → PW D dA A s.heap ad (TH σ) H locs → LH ad ls 2 [(0, pX 200)] → WTv p l e ({ frames := 1, cells := 0, slots := 0, locals := 23 } : Room) s m args below meth c D dA ad A Q H locs (F0 m 52 ls []) := by
  intro  σ H locs ls hF hP hl
  unfold P_X8_keep_52 at hF
  refine ph_aload_n (n := 0) X hl dX8_keep_52 rfl rfl ?_
  refine ph_aload_n (n := 0) X hl dX8_keep_53 rfl rfl ?_
  refine tw_getr 25 215 X hP q1795 dX8_keep_54 ?_
  refine lv_bipush (v := 18) X.1 X.2.1 dX8_keep_57 (by decide) ?_
  refine ph_aload_n (n := 0) X hl dX8_keep_59 rfl rfl ?_
  refine tw_geti 30 X hP q1800 dX8_keep_60 ?_
  refine lv_imul X.1 X.2.1 dX8_keep_63 ?_
  refine tw_callVv [pX 215, iX (18 * (σ 0 30))] X hP (met_X8_pack l D dA ad _ _ hF) (cwV 2 X.2.2.2.2.1 (lw_V q2159 q2161 qs72 q126 q2162) rfl rfl rfl (by decide +kernel) ⟨Nat.le_of_ble_eq_true rfl, Nat.le_of_ble_eq_true rfl⟩) rfl hl (k8 := 0) (cs0 (k := 0)) (by decide) ⟨Nat.le_refl _, Nat.le_refl _⟩ dX8_keep_64 rfl (fun σ1 H locs hF hP => ?_)
  refine ph_aload_n (n := 0) X hl dX8_keep_67 rfl rfl ?_
  refine ph_dup_r X dX8_keep_68 ?_
  refine tw_geti 30 X hP q1800 dX8_keep_69 ?_
  refine lv_iconst (v := 1) X.1 X.2.1 dX8_keep_72 (by decide) ?_
  refine lv_iadd X.1 X.2.1 dX8_keep_73 ?_
  refine tw_puti 30 X hP q1800 dX8_keep_74 hF (fun H locs σ3 hP hF => ?_)
  exact tw_vret X hP hF dX8_keep_77
set_option maxHeartbeats 2000000 in
theorem w_X8_keep_12 (X : CX p s m args c meth cX8_keep 2 none RX8 D dA ad A) {Q : S → Prop} : ∀ (n : Nat) (x1 : Int32) (σ : S) (H : Heap) (locs : List Loc) (ls : Array Slot), P_X8_keep_12 Q n x1 σ → PW D dA A s.heap ad (TH σ) H locs → LH ad ls 2 [(0, pX 200), (1, iX x1)] → WTv p l e ({ frames := 1, cells := 0, slots := 0, locals := 23 } : Room) s m args below meth c D dA ad A Q H locs (F0 m 12 ls []) := by
  intro n
  induction n with
  | zero =>
    intro x1 σ H locs ls hF
    exact hF.elim
  | succ n ih =>
    intro x1 σ H locs ls hF hP hl
    rw [P_X8_keep_12] at hF
    refine ph_iload_n (n := 1) X hl dX8_keep_12 rfl rfl ?_
    refine ph_aload_n (n := 0) X hl dX8_keep_13 rfl rfl ?_
    refine tw_getr 25 215 X hP q1795 dX8_keep_14 ?_
    refine tw_alen X hP dX8_keep_17 rfl rfl (x := 720) (by decide) ?_
    refine lv_icmp_ge (tgt := 42) X.1 X.2.1 dX8_keep_18 (by decide) (fun c8 => ?_) (fun c8 => ?_)
    · have hF := hF.1 c8
      refine ph_aload_n (n := 0) X hl dX8_keep_42 rfl rfl ?_
      refine ph_dup_r X dX8_keep_43 ?_
      refine tw_geti 30 X hP q1800 dX8_keep_44 ?_
      refine lv_iconst (v := 1) X.1 X.2.1 dX8_keep_47 (by decide) ?_
      refine lv_isub X.1 X.2.1 dX8_keep_48 ?_
      refine tw_puti 30 X hP q1800 dX8_keep_49 hF (fun H locs σ4 hP hF => ?_)
      exact w_X8_keep_52 X _ _ _ _ hF hP (lh_sub hl [0] rfl)
    · have hF := hF.2 c8
      refine ph_aload_n (n := 0) X hl dX8_keep_21 rfl rfl ?_
      refine tw_getr 25 215 X hP q1795 dX8_keep_22 ?_
      refine ph_iload_n (n := 1) X hl dX8_keep_25 rfl rfl ?_
      refine lv_bipush (v := 18) X.1 X.2.1 dX8_keep_26 (by decide) ?_
      refine lv_isub X.1 X.2.1 dX8_keep_28 ?_
      refine ph_aload_n (n := 0) X hl dX8_keep_29 rfl rfl ?_
      refine tw_getr 25 215 X hP q1795 dX8_keep_30 ?_
      refine ph_iload_n (n := 1) X hl dX8_keep_33 rfl rfl ?_
      obtain ⟨hr5, hF⟩ := hF
      refine tw_ald 15 (n := 720) X hP hr5 (k := x1.toNatClampNeg) rfl dX8_keep_34 ?_
      obtain ⟨hr7, hF⟩ := hF
      refine tw_ast 15 (n := 720) X hP hr7 (k := (x1 - 18).toNatClampNeg) rfl dX8_keep_35 hF (fun H locs σ6 hP hF => ?_)
      refine ph_iinc (v := x1 + 1) (k := 1) X hl dX8_keep_36 rfl rfl (by decide) rfl (fun ls hl => ?_)
      refine lv_goto (tgt := 12) X.1 X.2.1 dX8_keep_39 (by decide) ?_
      exact ih _ _ _ _ _ hF hP (lh_sub hl [1, 0] rfl)
set_option maxHeartbeats 2000000 in
theorem met_X8_keep (l : Launch) (D : va_G) (dA : Nat → ClassId) (ad : Nat → Nat) (σ : S) (sz : Nat) {Q : S → Prop} (hF : P_X8_keep  σ Q) : CTv l yX8_keep cX8_keep 2 ({ frames := 1, cells := 0, slots := 0, locals := 23 } : Room) D dA ad σ sz [pX 200] Q := by
  unfold P_X8_keep at hF
  refine ph_enter [pX 200] (Qc := fun A => va_Qv (TQv Q) (CB D dA ad A) A) (by decide +kernel) (Nat.le_of_ble_eq_true rfl) ?_
  intro p e s m args below meth c A ls X hP hl hnm
  have hl : LH ad ls 2 [(0, pX 200)] := hl
  refine ph_aload_n (n := 0) X hl dX8_keep_0 rfl rfl ?_
  refine tw_geti 30 X hP q1800 dX8_keep_1 ?_
  refine lv_bipush (v := 40) X.1 X.2.1 dX8_keep_4 (by decide) ?_
  refine lv_icmp_ne (tgt := 52) X.1 X.2.1 dX8_keep_6 (by decide) (fun c9 => ?_) (fun c9 => ?_)
  · have hF := hF.1 c9
    exact w_X8_keep_52 X _ _ _ _ hF hP hl
  · have hF := hF.2 c9
    refine lv_bipush (v := 18) X.1 X.2.1 dX8_keep_9 (by decide) ?_
    refine ph_istore_n X hl dX8_keep_11 rfl (by decide) rfl (fun ls hl => ?_)
    obtain ⟨n9, hF⟩ := hF
    exact w_X8_keep_12 X n9 _ _ _ _ _ hF hP (lh_sub hl [1, 0] rfl)
def P_X8_refuse (a1 : Int32) (σ : S) (Q : Int32 → S → Prop) : Prop := (vp_in a1 3 ∧ (vp_in a1 3 ∧ (∀ σ2, σ2 = up2 σ 12 a1.toNatClampNeg ((σ 12 a1.toNatClampNeg) + 1) → (Q (-1) σ2))))
set_option maxHeartbeats 2000000 in
theorem met_X8_refuse (l : Launch) (D : va_G) (dA : Nat → ClassId) (ad : Nat → Nat) (σ : S) (sz : Nat) {a1 : Int32} {Q : Int32 → S → Prop} (hF : P_X8_refuse a1 σ Q) : CTi l yX8_refuse cX8_refuse 2 .int ({ frames := 0, cells := 0, slots := 0, locals := 0 } : Room) D dA ad σ sz [pX 200, iX a1] Q := by
  unfold P_X8_refuse at hF
  refine ph_enter [pX 200, iX a1] (Qc := fun A => va_Qi (TQi Q) (CB D dA ad A) A) (by decide +kernel) (Nat.le_of_ble_eq_true rfl) ?_
  intro p e s m args below meth c A ls X hP hl hnm
  have hl : LH ad ls 2 [(0, pX 200), (1, iX a1)] := hl
  refine ph_aload_n (n := 0) X hl dX8_refuse_0 rfl rfl ?_
  refine tw_getr 12 212 X hP q1782 dX8_refuse_1 ?_
  refine ph_iload_n (n := 1) X hl dX8_refuse_4 rfl rfl ?_
  refine ph_dup2_ir X dX8_refuse_5 ?_
  obtain ⟨hr1, hF⟩ := hF
  refine tw_ald 12 (n := 3) X hP hr1 (k := a1.toNatClampNeg) rfl dX8_refuse_6 ?_
  refine lv_iconst (v := 1) X.1 X.2.1 dX8_refuse_7 (by decide) ?_
  refine lv_iadd X.1 X.2.1 dX8_refuse_8 ?_
  obtain ⟨hr3, hF⟩ := hF
  refine tw_ast 12 (n := 3) X hP hr3 (k := a1.toNatClampNeg) rfl dX8_refuse_9 hF (fun H locs σ2 hP hF => ?_)
  refine lv_iconst (v := (-1)) X.1 X.2.1 dX8_refuse_10 (by decide) ?_
  exact tw_iret X hP hF dX8_refuse_11
def P_X8_swap_26 (Q : Int32 → S → Prop)  (σ : S) : Prop := (∀ σ1, σ1 = up2 σ 12 1 ((σ 12 1) + 1) → (Q 0 σ1))
def P_X8_swap (a1 : Int32) (a2 : Int32) (σ : S) (Q : Int32 → S → Prop) : Prop := (∀ σ2, σ2 = up2 σ 0 2 0 → (P_X8_isSleeper a1 σ2 (fun r4 σ3 => ((r4 = 0 → (P_X8_swap_26 Q σ3)) ∧ (¬ r4 = 0 → (P_X8_isSleeper a2 σ3 (fun r6 σ5 => ((r6 = 0 → (P_X8_swap_26 Q σ5)) ∧ (¬ r6 = 0 → ((¬ a1 = a2 → (P_X8_keep σ5 (fun σ7 => (vp_in a1 7 ∧ (vp_in a2 7 ∧ (vp_in a1 7 ∧ (∀ σ11, σ11 = up2 σ7 14 a1.toNatClampNeg (σ7 14 a2.toNatClampNeg) → (vp_in a2 7 ∧ (∀ σ13, σ13 = up2 σ11 14 a2.toNatClampNeg (σ7 14 a1.toNatClampNeg) → (Q 1 σ13)))))))))) ∧ (a1 = a2 → (P_X8_swap_26 Q σ5))))))))))))
set_option maxHeartbeats 2000000 in
theorem w_X8_swap_26 (X : CX p s m args c meth cX8_swap 4 (some .boolean) RX8 D dA ad A) {Q : Int32 → S → Prop} : ∀  (σ : S) (H : Heap) (locs : List Loc) (ls : Array Slot), P_X8_swap_26 Q  σ → PW D dA A s.heap ad (TH σ) H locs → LH ad ls 4 [(0, pX 200)] → WTi p l e ({ frames := 2, cells := 0, slots := 0, locals := 46 } : Room) s m args below meth c D dA ad A Q H locs (F0 m 26 ls []) := by
  intro  σ H locs ls hF hP hl
  unfold P_X8_swap_26 at hF
  refine ph_aload_n (n := 0) X hl dX8_swap_26 rfl rfl ?_
  refine tw_getr 12 212 X hP q1782 dX8_swap_27 ?_
  refine lv_iconst (v := 1) X.1 X.2.1 dX8_swap_30 (by decide) ?_
  refine ph_dup2_ir X dX8_swap_31 ?_
  refine tw_ald 12 (n := 3) X hP (vin (by decide)) (k := 1) (by decide) dX8_swap_32 ?_
  refine lv_iconst (v := 1) X.1 X.2.1 dX8_swap_33 (by decide) ?_
  refine lv_iadd X.1 X.2.1 dX8_swap_34 ?_
  refine tw_ast 12 (n := 3) X hP (vin (by decide)) (k := 1) (by decide) dX8_swap_35 hF (fun H locs σ1 hP hF => ?_)
  refine lv_iconst (v := 0) X.1 X.2.1 dX8_swap_36 (by decide) ?_
  exact tw_zret X hP isB_0 hF dX8_swap_37
set_option maxHeartbeats 2000000 in
theorem met_X8_swap (l : Launch) (D : va_G) (dA : Nat → ClassId) (ad : Nat → Nat) (σ : S) (sz : Nat) {a1 : Int32} {a2 : Int32} {Q : Int32 → S → Prop} (hF : P_X8_swap a1 a2 σ Q) : CTi l yX8_swap cX8_swap 4 .boolean ({ frames := 2, cells := 0, slots := 0, locals := 46 } : Room) D dA ad σ sz [pX 200, iX a1, iX a2] Q := by
  unfold P_X8_swap at hF
  refine ph_enter [pX 200, iX a1, iX a2] (Qc := fun A => va_Qi (TQi Q) (CB D dA ad A) A) (by decide +kernel) (Nat.le_of_ble_eq_true rfl) ?_
  intro p e s m args below meth c A ls X hP hl hnm
  have hl : LH ad ls 4 [(0, pX 200), (1, iX a1), (2, iX a2)] := hl
  refine ph_aload_n (n := 0) X hl dX8_swap_0 rfl rfl ?_
  refine lv_iconst (v := 0) X.1 X.2.1 dX8_swap_1 (by decide) ?_
  refine tw_puti 2 X hP q1772 dX8_swap_2 hF (fun H locs σ2 hP hF => ?_)
  refine ph_aload_n (n := 0) X hl dX8_swap_5 rfl rfl ?_
  refine ph_iload_n (n := 1) X hl dX8_swap_6 rfl rfl ?_
  refine tw_callVi [iX a1] X hP (met_X8_isSleeper l D dA ad _ _ hF) (cwV 1 X.2.2.2.2.1 (lw_V q2140 q2142 qs69 q126 q2143) rfl rfl rfl (by decide +kernel) ⟨Nat.le_of_ble_eq_true rfl, Nat.le_of_ble_eq_true rfl⟩) rfl hl (k8 := 0) (cs0 (k := 0)) (by decide) ⟨Nat.le_refl _, Nat.le_refl _⟩ dX8_swap_7 rfl (fun r4 σ3 H locs hF hP => ?_)
  refine lv_if_eq (tgt := 26) X.1 X.2.1 dX8_swap_10 (by decide) (fun c17 => ?_) (fun c17 => ?_)
  · have hF := hF.1 c17
    exact w_X8_swap_26 X _ _ _ _ hF hP (lh_sub hl [0] rfl)
  · have hF := hF.2 c17
    refine ph_aload_n (n := 0) X hl dX8_swap_13 rfl rfl ?_
    refine ph_iload_n (n := 2) X hl dX8_swap_14 rfl rfl ?_
    refine tw_callVi [iX a2] X hP (met_X8_isSleeper l D dA ad _ _ hF) (cwV 1 X.2.2.2.2.1 (lw_V q2140 q2142 qs69 q126 q2143) rfl rfl rfl (by decide +kernel) ⟨Nat.le_of_ble_eq_true rfl, Nat.le_of_ble_eq_true rfl⟩) rfl hl (k8 := 0) (cs0 (k := 0)) (by decide) ⟨Nat.le_refl _, Nat.le_refl _⟩ dX8_swap_15 rfl (fun r6 σ5 H locs hF hP => ?_)
    refine lv_if_eq (tgt := 26) X.1 X.2.1 dX8_swap_18 (by decide) (fun c16 => ?_) (fun c16 => ?_)
    · have hF := hF.1 c16
      exact w_X8_swap_26 X _ _ _ _ hF hP (lh_sub hl [0] rfl)
    · have hF := hF.2 c16
      refine ph_iload_n (n := 1) X hl dX8_swap_21 rfl rfl ?_
      refine ph_iload_n (n := 2) X hl dX8_swap_22 rfl rfl ?_
      refine lv_icmp_ne (tgt := 38) X.1 X.2.1 dX8_swap_23 (by decide) (fun c15 => ?_) (fun c15 => ?_)
      · have hF := hF.1 c15
        refine ph_aload_n (n := 0) X hl dX8_swap_38 rfl rfl ?_
        refine tw_callVv [] X hP (met_X8_keep l D dA ad _ _ hF) (cwV 0 X.2.2.2.2.1 (lw_V q2155 q2157 qs71 q126 q2158) rfl rfl rfl (by decide +kernel) ⟨Nat.le_of_ble_eq_true rfl, Nat.le_of_ble_eq_true rfl⟩) rfl hl (k8 := 0) (cs0 (k := 0)) (by decide) ⟨Nat.le_refl _, Nat.le_refl _⟩ dX8_swap_39 rfl (fun σ7 H locs hF hP => ?_)
        refine ph_aload_n (n := 0) X hl dX8_swap_42 rfl rfl ?_
        refine tw_getr 24 214 X hP q1794 dX8_swap_43 ?_
        refine ph_iload_n (n := 1) X hl dX8_swap_46 rfl rfl ?_
        obtain ⟨hr9, hF⟩ := hF
        refine tw_ald 14 (n := 7) X hP hr9 (k := a1.toNatClampNeg) rfl dX8_swap_47 ?_
        refine ph_istore_n X hl dX8_swap_48 rfl (by decide) rfl (fun ls hl => ?_)
        refine ph_aload_n (n := 1) X hl dX8_swap_49 rfl rfl ?_
        refine tw_getr 24 214 X hP q1794 dX8_swap_50 ?_
        refine ph_iload_n (n := 2) X hl dX8_swap_53 rfl rfl ?_
        refine ph_aload_n (n := 1) X hl dX8_swap_54 rfl rfl ?_
        refine tw_getr 24 214 X hP q1794 dX8_swap_55 ?_
        refine ph_iload_n (n := 3) X hl dX8_swap_58 rfl rfl ?_
        obtain ⟨hr10, hF⟩ := hF
        refine tw_ald 14 (n := 7) X hP hr10 (k := a2.toNatClampNeg) rfl dX8_swap_59 ?_
        obtain ⟨hr12, hF⟩ := hF
        refine tw_ast 14 (n := 7) X hP hr12 (k := a1.toNatClampNeg) rfl dX8_swap_60 hF (fun H locs σ11 hP hF => ?_)
        refine ph_aload_n (n := 1) X hl dX8_swap_61 rfl rfl ?_
        refine tw_getr 24 214 X hP q1794 dX8_swap_62 ?_
        refine ph_iload_n (n := 3) X hl dX8_swap_65 rfl rfl ?_
        refine ph_iload_n (n := 0) X hl dX8_swap_66 rfl rfl ?_
        obtain ⟨hr14, hF⟩ := hF
        refine tw_ast 14 (n := 7) X hP hr14 (k := a2.toNatClampNeg) rfl dX8_swap_67 hF (fun H locs σ13 hP hF => ?_)
        refine lv_iconst (v := 1) X.1 X.2.1 dX8_swap_68 (by decide) ?_
        exact tw_zret X hP isB_1 hF dX8_swap_69
      · have hF := hF.2 c15
        exact w_X8_swap_26 X _ _ _ _ hF hP (lh_sub hl [0] rfl)
def P_X8_side (a1 : Int32) (σ : S) (Q : Int32 → S → Prop) : Prop := (∀ σ1, σ1 = up2 σ 0 2 0 → ((a1 < 0 → (P_X8_refuse 1 σ1 (fun r3 σ2 => (Q r3 σ2)))) ∧ (¬ a1 < 0 → ((a1 ≤ 1 → (P_X8_keep σ1 (fun σ4 => (∀ σ6, σ6 = up2 σ4 0 26 a1 → (Q (σ4 0 26) σ6))))) ∧ (¬ a1 ≤ 1 → (P_X8_refuse 1 σ1 (fun r8 σ7 => (Q r8 σ7))))))))
set_option maxHeartbeats 2000000 in
theorem met_X8_side (l : Launch) (D : va_G) (dA : Nat → ClassId) (ad : Nat → Nat) (σ : S) (sz : Nat) {a1 : Int32} {Q : Int32 → S → Prop} (hF : P_X8_side a1 σ Q) : CTi l yX8_side cX8_side 3 .int ({ frames := 2, cells := 0, slots := 0, locals := 44 } : Room) D dA ad σ sz [pX 200, iX a1] Q := by
  unfold P_X8_side at hF
  refine ph_enter [pX 200, iX a1] (Qc := fun A => va_Qi (TQi Q) (CB D dA ad A) A) (by decide +kernel) (Nat.le_of_ble_eq_true rfl) ?_
  intro p e s m args below meth c A ls X hP hl hnm
  have hl : LH ad ls 3 [(0, pX 200), (1, iX a1)] := hl
  refine ph_aload_n (n := 0) X hl dX8_side_0 rfl rfl ?_
  refine lv_iconst (v := 0) X.1 X.2.1 dX8_side_1 (by decide) ?_
  refine tw_puti 2 X hP q1772 dX8_side_2 hF (fun H locs σ1 hP hF => ?_)
  refine ph_iload_n (n := 1) X hl dX8_side_5 rfl rfl ?_
  refine lv_if_lt (tgt := 14) X.1 X.2.1 dX8_side_6 (by decide) (fun c10 => ?_) (fun c10 => ?_)
  · have hF := hF.1 c10
    refine ph_aload_n (n := 0) X hl dX8_side_14 rfl rfl ?_
    refine lv_iconst (v := 1) X.1 X.2.1 dX8_side_15 (by decide) ?_
    refine tw_callVi [iX 1] X hP (met_X8_refuse l D dA ad _ _ hF) (cwV 1 X.2.2.2.2.1 (lw_V q2167 q2169 qs73 q126 q2170) rfl rfl rfl (by decide +kernel) ⟨Nat.le_of_ble_eq_true rfl, Nat.le_of_ble_eq_true rfl⟩) rfl hl (k8 := 0) (cs0 (k := 0)) (by decide) ⟨Nat.le_refl _, Nat.le_refl _⟩ dX8_side_16 rfl (fun r3 σ2 H locs hF hP => ?_)
    exact tw_iret X hP hF dX8_side_19
  · have hF := hF.2 c10
    refine ph_iload_n (n := 1) X hl dX8_side_9 rfl rfl ?_
    refine lv_iconst (v := 1) X.1 X.2.1 dX8_side_10 (by decide) ?_
    refine lv_icmp_le (tgt := 20) X.1 X.2.1 dX8_side_11 (by decide) (fun c9 => ?_) (fun c9 => ?_)
    · have hF := hF.1 c9
      refine ph_aload_n (n := 0) X hl dX8_side_20 rfl rfl ?_
      refine tw_callVv [] X hP (met_X8_keep l D dA ad _ _ hF) (cwV 0 X.2.2.2.2.1 (lw_V q2155 q2157 qs71 q126 q2158) rfl rfl rfl (by decide +kernel) ⟨Nat.le_of_ble_eq_true rfl, Nat.le_of_ble_eq_true rfl⟩) rfl hl (k8 := 0) (cs0 (k := 0)) (by decide) ⟨Nat.le_refl _, Nat.le_refl _⟩ dX8_side_21 rfl (fun σ4 H locs hF hP => ?_)
      refine ph_aload_n (n := 0) X hl dX8_side_24 rfl rfl ?_
      refine tw_geti 26 X hP q1796 dX8_side_25 ?_
      refine ph_istore_n X hl dX8_side_28 rfl (by decide) rfl (fun ls hl => ?_)
      refine ph_aload_n (n := 1) X hl dX8_side_29 rfl rfl ?_
      refine ph_iload_n (n := 2) X hl dX8_side_30 rfl rfl ?_
      refine tw_puti 26 X hP q1796 dX8_side_31 hF (fun H locs σ6 hP hF => ?_)
      refine ph_iload_n (n := 0) X hl dX8_side_34 rfl rfl ?_
      exact tw_iret X hP hF dX8_side_35
    · have hF := hF.2 c9
      refine ph_aload_n (n := 0) X hl dX8_side_14 rfl rfl ?_
      refine lv_iconst (v := 1) X.1 X.2.1 dX8_side_15 (by decide) ?_
      refine tw_callVi [iX 1] X hP (met_X8_refuse l D dA ad _ _ hF) (cwV 1 X.2.2.2.2.1 (lw_V q2167 q2169 qs73 q126 q2170) rfl rfl rfl (by decide +kernel) ⟨Nat.le_of_ble_eq_true rfl, Nat.le_of_ble_eq_true rfl⟩) rfl hl (k8 := 0) (cs0 (k := 0)) (by decide) ⟨Nat.le_refl _, Nat.le_refl _⟩ dX8_side_16 rfl (fun r8 σ7 H locs hF hP => ?_)
      exact tw_iret X hP hF dX8_side_19
def P_X8_word (a1 : Int32) (a2 : Int32) (σ : S) (Q : Int32 → S → Prop) : Prop := (∀ σ1, σ1 = up2 σ 0 2 0 → (P_X8_isSleeper a1 σ1 (fun r3 σ2 => ((¬ r3 = 0 → (vp_in a1 14 ∧ (((σ2 4 a1.toNatClampNeg) = 3 → (P_X8_refuse 1 σ2 (fun r6 σ5 => (Q r6 σ5)))) ∧ (¬ (σ2 4 a1.toNatClampNeg) = 3 → (P_X8_isIn a2.toInt64 0 240 σ2 (fun r8 σ7 => ((¬ r8 = 0 → (P_X8_keep σ7 (fun σ9 => ((¬ a2 = 0 → (∀ σ11, σ11 = up2 σ9 0 27 a1 → (∀ σ12, σ12 = up2 σ11 0 28 a2 → (Q (σ9 0 28) σ12)))) ∧ (a2 = 0 → (∀ σ13, σ13 = up2 σ9 0 27 (-1) → (∀ σ14, σ14 = up2 σ13 0 28 a2 → (Q (σ9 0 28) σ14)))))))) ∧ (r8 = 0 → (P_X8_refuse 1 σ7 (fun r17 σ16 => (Q r17 σ16))))))))))) ∧ (r3 = 0 → (P_X8_fail 1 σ2 (fun r21 σ20 => (Q r21 σ20))))))))
set_option maxHeartbeats 2000000 in
theorem met_X8_word (l : Launch) (D : va_G) (dA : Nat → ClassId) (ad : Nat → Nat) (σ : S) (sz : Nat) {a1 : Int32} {a2 : Int32} {Q : Int32 → S → Prop} (hF : P_X8_word a1 a2 σ Q) : CTi l yX8_word cX8_word 4 .int ({ frames := 2, cells := 0, slots := 0, locals := 46 } : Room) D dA ad σ sz [pX 200, iX a1, iX a2] Q := by
  unfold P_X8_word at hF
  refine ph_enter [pX 200, iX a1, iX a2] (Qc := fun A => va_Qi (TQi Q) (CB D dA ad A) A) (by decide +kernel) (Nat.le_of_ble_eq_true rfl) ?_
  intro p e s m args below meth c A ls X hP hl hnm
  have hl : LH ad ls 4 [(0, pX 200), (1, iX a1), (2, iX a2)] := hl
  refine ph_aload_n (n := 0) X hl dX8_word_0 rfl rfl ?_
  refine lv_iconst (v := 0) X.1 X.2.1 dX8_word_1 (by decide) ?_
  refine tw_puti 2 X hP q1772 dX8_word_2 hF (fun H locs σ1 hP hF => ?_)
  refine ph_aload_n (n := 0) X hl dX8_word_5 rfl rfl ?_
  refine ph_iload_n (n := 1) X hl dX8_word_6 rfl rfl ?_
  refine tw_callVi [iX a1] X hP (met_X8_isSleeper l D dA ad _ _ hF) (cwV 1 X.2.2.2.2.1 (lw_V q2140 q2142 qs69 q126 q2143) rfl rfl rfl (by decide +kernel) ⟨Nat.le_of_ble_eq_true rfl, Nat.le_of_ble_eq_true rfl⟩) rfl hl (k8 := 0) (cs0 (k := 0)) (by decide) ⟨Nat.le_refl _, Nat.le_refl _⟩ dX8_word_7 rfl (fun r3 σ2 H locs hF hP => ?_)
  refine lv_if_ne (tgt := 19) X.1 X.2.1 dX8_word_10 (by decide) (fun c22 => ?_) (fun c22 => ?_)
  · have hF := hF.1 c22
    refine ph_aload_n (n := 0) X hl dX8_word_19 rfl rfl ?_
    refine tw_getr 4 204 X hP q1774 dX8_word_20 ?_
    refine ph_iload_n (n := 1) X hl dX8_word_23 rfl rfl ?_
    obtain ⟨hr4, hF⟩ := hF
    refine tw_ald 4 (n := 14) X hP hr4 (k := a1.toNatClampNeg) rfl dX8_word_24 ?_
    refine lv_iconst (v := 3) X.1 X.2.1 dX8_word_25 (by decide) ?_
    refine lv_icmp_eq (tgt := 41) X.1 X.2.1 dX8_word_26 (by decide) (fun c19 => ?_) (fun c19 => ?_)
    · have hF := hF.1 c19
      refine ph_aload_n (n := 0) X hl dX8_word_41 rfl rfl ?_
      refine lv_iconst (v := 1) X.1 X.2.1 dX8_word_42 (by decide) ?_
      refine tw_callVi [iX 1] X hP (met_X8_refuse l D dA ad _ _ hF) (cwV 1 X.2.2.2.2.1 (lw_V q2167 q2169 qs73 q126 q2170) rfl rfl rfl (by decide +kernel) ⟨Nat.le_of_ble_eq_true rfl, Nat.le_of_ble_eq_true rfl⟩) rfl hl (k8 := 0) (cs0 (k := 0)) (by decide) ⟨Nat.le_refl _, Nat.le_refl _⟩ dX8_word_43 rfl (fun r6 σ5 H locs hF hP => ?_)
      exact tw_iret X hP hF dX8_word_46
    · have hF := hF.2 c19
      refine ph_iload_n (n := 2) X hl dX8_word_29 rfl rfl ?_
      refine lv_i2l X.1 X.2.1 dX8_word_30 rfl ?_
      refine lv_lconst (v := 0) X.1 X.2.1 dX8_word_31 (by decide) ?_
      refine lv_ldc2 (v := 240) X.1 X.2.1 X.2.2.2.1 (X.2.2.2.2.1 _ q2175) dX8_word_32 ?_
      refine tw_callSi [lX a2.toInt64, lX 0, lX 240] X hP (met_X8_isIn l D dA ad _ _ hF) (va_cwS 3 X.2.2.2.2.1 (lw_S q2144 q2145 q126 q2146) rfl rfl rfl (by decide +kernel) ⟨Nat.le_of_ble_eq_true rfl, Nat.le_of_ble_eq_true rfl⟩) rfl hl (k8 := 0) (cs0 (k := 0)) (by decide) ⟨Nat.le_refl _, Nat.le_refl _⟩ dX8_word_35 rfl (fun r8 σ7 H locs hF hP => ?_)
      refine lv_if_ne (tgt := 47) X.1 X.2.1 dX8_word_38 (by decide) (fun c18 => ?_) (fun c18 => ?_)
      · have hF := hF.1 c18
        refine ph_aload_n (n := 0) X hl dX8_word_47 rfl rfl ?_
        refine tw_callVv [] X hP (met_X8_keep l D dA ad _ _ hF) (cwV 0 X.2.2.2.2.1 (lw_V q2155 q2157 qs71 q126 q2158) rfl rfl rfl (by decide +kernel) ⟨Nat.le_of_ble_eq_true rfl, Nat.le_of_ble_eq_true rfl⟩) rfl hl (k8 := 0) (cs0 (k := 0)) (by decide) ⟨Nat.le_refl _, Nat.le_refl _⟩ dX8_word_48 rfl (fun σ9 H locs hF hP => ?_)
        refine ph_aload_n (n := 0) X hl dX8_word_51 rfl rfl ?_
        refine tw_geti 28 X hP q1798 dX8_word_52 ?_
        refine ph_istore_n X hl dX8_word_55 rfl (by decide) rfl (fun ls hl => ?_)
        refine ph_aload_n (n := 1) X hl dX8_word_56 rfl rfl ?_
        refine ph_iload_n (n := 3) X hl dX8_word_57 rfl rfl ?_
        refine lv_if_ne (tgt := 65) X.1 X.2.1 dX8_word_58 (by decide) (fun c15 => ?_) (fun c15 => ?_)
        · have hF := hF.1 c15
          refine ph_iload_n (n := 2) X hl dX8_word_65 rfl rfl ?_
          refine tw_puti 27 X hP q1797 dX8_word_66 hF (fun H locs σ11 hP hF => ?_)
          refine ph_aload_n (n := 1) X hl dX8_word_69 rfl rfl ?_
          refine ph_iload_n (n := 3) X hl dX8_word_70 rfl rfl ?_
          refine tw_puti 28 X hP q1798 dX8_word_71 hF (fun H locs σ12 hP hF => ?_)
          refine ph_iload_n (n := 0) X hl dX8_word_74 rfl rfl ?_
          exact tw_iret X hP hF dX8_word_75
        · have hF := hF.2 c15
          refine lv_iconst (v := (-1)) X.1 X.2.1 dX8_word_61 (by decide) ?_
          refine lv_goto (tgt := 66) X.1 X.2.1 dX8_word_62 (by decide) ?_
          refine tw_puti 27 X hP q1797 dX8_word_66 hF (fun H locs σ13 hP hF => ?_)
          refine ph_aload_n (n := 1) X hl dX8_word_69 rfl rfl ?_
          refine ph_iload_n (n := 3) X hl dX8_word_70 rfl rfl ?_
          refine tw_puti 28 X hP q1798 dX8_word_71 hF (fun H locs σ14 hP hF => ?_)
          refine ph_iload_n (n := 0) X hl dX8_word_74 rfl rfl ?_
          exact tw_iret X hP hF dX8_word_75
      · have hF := hF.2 c18
        refine ph_aload_n (n := 0) X hl dX8_word_41 rfl rfl ?_
        refine lv_iconst (v := 1) X.1 X.2.1 dX8_word_42 (by decide) ?_
        refine tw_callVi [iX 1] X hP (met_X8_refuse l D dA ad _ _ hF) (cwV 1 X.2.2.2.2.1 (lw_V q2167 q2169 qs73 q126 q2170) rfl rfl rfl (by decide +kernel) ⟨Nat.le_of_ble_eq_true rfl, Nat.le_of_ble_eq_true rfl⟩) rfl hl (k8 := 0) (cs0 (k := 0)) (by decide) ⟨Nat.le_refl _, Nat.le_refl _⟩ dX8_word_43 rfl (fun r17 σ16 H locs hF hP => ?_)
        exact tw_iret X hP hF dX8_word_46
  · have hF := hF.2 c22
    refine ph_aload_n (n := 0) X hl dX8_word_13 rfl rfl ?_
    refine lv_iconst (v := 1) X.1 X.2.1 dX8_word_14 (by decide) ?_
    refine tw_callVi [iX 1] X hP (met_X8_fail l D dA ad _ _ hF) (cwV 1 X.2.2.2.2.1 (lw_V q2002 q2004 qs44 q126 q2005) rfl rfl rfl (by decide +kernel) ⟨Nat.le_of_ble_eq_true rfl, Nat.le_of_ble_eq_true rfl⟩) rfl hl (k8 := 0) (cs0 (k := 0)) (by decide) ⟨Nat.le_refl _, Nat.le_refl _⟩ dX8_word_15 rfl (fun r21 σ20 H locs hF hP => ?_)
    exact tw_iret X hP hF dX8_word_18
def P_X8_bolster_37 (Q : Int32 → S → Prop)  (σ : S) : Prop := (∀ σ1, σ1 = up2 σ 12 1 ((σ 12 1) + 1) → (Q 0 σ1))
def P_X8_bolster_34 (Q : Int32 → S → Prop) (y0 : Int32) (y1 : Int32) (x1 : Int32) (σ : S) : Prop := ((¬ y0 = y1 → (P_X8_keep σ (fun σ2 => (∀ σ4, σ4 = up2 σ2 0 29 ((σ2 0 29) ^^^ (1 <<< ((x1 : Int32) &&& 31))) → (Q 1 σ4))))) ∧ (y0 = y1 → (P_X8_bolster_37 Q σ)))
def P_X8_bolster (a1 : Int32) (a2 : Int32) (σ : S) (Q : Int32 → S → Prop) : Prop := (∀ σ6, σ6 = up2 σ 0 2 0 → (P_X8_isIn a1.toInt64 1 6 σ6 (fun r8 σ7 => ((r8 = 0 → (P_X8_bolster_37 Q σ7)) ∧ (¬ r8 = 0 → ((a2 = 0 → (P_X8_bolster_34 Q (((σ7 0 29) >>> ((a1 : Int32) &&& 31)) &&& 1) 0 a1 σ7)) ∧ (¬ a2 = 0 → (P_X8_bolster_34 Q (((σ7 0 29) >>> ((a1 : Int32) &&& 31)) &&& 1) 1 a1 σ7))))))))
set_option maxHeartbeats 2000000 in
theorem w_X8_bolster_37 (X : CX p s m args c meth cX8_bolster 3 (some .boolean) RX8 D dA ad A) {Q : Int32 → S → Prop} : ∀  (σ : S) (H : Heap) (locs : List Loc) (ls : Array Slot), P_X8_bolster_37 Q  σ → PW D dA A s.heap ad (TH σ) H locs → LH ad ls 3 [(0, pX 200)] → WTi p l e ({ frames := 2, cells := 0, slots := 0, locals := 44 } : Room) s m args below meth c D dA ad A Q H locs (F0 m 37 ls []) := by
  intro  σ H locs ls hF hP hl
  unfold P_X8_bolster_37 at hF
  refine ph_aload_n (n := 0) X hl dX8_bolster_37 rfl rfl ?_
  refine tw_getr 12 212 X hP q1782 dX8_bolster_38 ?_
  refine lv_iconst (v := 1) X.1 X.2.1 dX8_bolster_41 (by decide) ?_
  refine ph_dup2_ir X dX8_bolster_42 ?_
  refine tw_ald 12 (n := 3) X hP (vin (by decide)) (k := 1) (by decide) dX8_bolster_43 ?_
  refine lv_iconst (v := 1) X.1 X.2.1 dX8_bolster_44 (by decide) ?_
  refine lv_iadd X.1 X.2.1 dX8_bolster_45 ?_
  refine tw_ast 12 (n := 3) X hP (vin (by decide)) (k := 1) (by decide) dX8_bolster_46 hF (fun H locs σ1 hP hF => ?_)
  refine lv_iconst (v := 0) X.1 X.2.1 dX8_bolster_47 (by decide) ?_
  exact tw_zret X hP isB_0 hF dX8_bolster_48
set_option maxHeartbeats 2000000 in
theorem w_X8_bolster_34 (X : CX p s m args c meth cX8_bolster 3 (some .boolean) RX8 D dA ad A) {Q : Int32 → S → Prop} : ∀ (y0 : Int32) (y1 : Int32) (x1 : Int32) (σ : S) (H : Heap) (locs : List Loc) (ls : Array Slot), P_X8_bolster_34 Q y0 y1 x1 σ → PW D dA A s.heap ad (TH σ) H locs → LH ad ls 3 [(0, pX 200), (1, iX x1)] → WTi p l e ({ frames := 2, cells := 0, slots := 0, locals := 44 } : Room) s m args below meth c D dA ad A Q H locs (F0 m 34 ls [.int y1, .int y0]) := by
  intro y0 y1 x1 σ H locs ls hF hP hl
  unfold P_X8_bolster_34 at hF
  refine lv_icmp_ne (tgt := 49) X.1 X.2.1 dX8_bolster_34 (by decide) (fun c5 => ?_) (fun c5 => ?_)
  · have hF := hF.1 c5
    refine ph_aload_n (n := 0) X hl dX8_bolster_49 rfl rfl ?_
    refine tw_callVv [] X hP (met_X8_keep l D dA ad _ _ hF) (cwV 0 X.2.2.2.2.1 (lw_V q2155 q2157 qs71 q126 q2158) rfl rfl rfl (by decide +kernel) ⟨Nat.le_of_ble_eq_true rfl, Nat.le_of_ble_eq_true rfl⟩) rfl hl (k8 := 0) (cs0 (k := 0)) (by decide) ⟨Nat.le_refl _, Nat.le_refl _⟩ dX8_bolster_50 rfl (fun σ2 H locs hF hP => ?_)
    refine ph_aload_n (n := 0) X hl dX8_bolster_53 rfl rfl ?_
    refine ph_dup_r X dX8_bolster_54 ?_
    refine tw_geti 29 X hP q1799 dX8_bolster_55 ?_
    refine lv_iconst (v := 1) X.1 X.2.1 dX8_bolster_58 (by decide) ?_
    refine ph_iload_n (n := 1) X hl dX8_bolster_59 rfl rfl ?_
    refine lv_ishl X.1 X.2.1 dX8_bolster_60 ?_
    refine lv_ixor X.1 X.2.1 dX8_bolster_61 ?_
    refine tw_puti 29 X hP q1799 dX8_bolster_62 hF (fun H locs σ4 hP hF => ?_)
    refine lv_iconst (v := 1) X.1 X.2.1 dX8_bolster_65 (by decide) ?_
    exact tw_zret X hP isB_1 hF dX8_bolster_66
  · have hF := hF.2 c5
    exact w_X8_bolster_37 X _ _ _ _ hF hP (lh_sub hl [0] rfl)
set_option maxHeartbeats 2000000 in
theorem met_X8_bolster (l : Launch) (D : va_G) (dA : Nat → ClassId) (ad : Nat → Nat) (σ : S) (sz : Nat) {a1 : Int32} {a2 : Int32} {Q : Int32 → S → Prop} (hF : P_X8_bolster a1 a2 σ Q) : CTi l yX8_bolster cX8_bolster 3 .boolean ({ frames := 2, cells := 0, slots := 0, locals := 44 } : Room) D dA ad σ sz [pX 200, iX a1, iX a2] Q := by
  unfold P_X8_bolster at hF
  refine ph_enter [pX 200, iX a1, iX a2] (Qc := fun A => va_Qi (TQi Q) (CB D dA ad A) A) (by decide +kernel) (Nat.le_of_ble_eq_true rfl) ?_
  intro p e s m args below meth c A ls X hP hl hnm
  have hl : LH ad ls 3 [(0, pX 200), (1, iX a1), (2, iX a2)] := hl
  refine ph_aload_n (n := 0) X hl dX8_bolster_0 rfl rfl ?_
  refine lv_iconst (v := 0) X.1 X.2.1 dX8_bolster_1 (by decide) ?_
  refine tw_puti 2 X hP q1772 dX8_bolster_2 hF (fun H locs σ6 hP hF => ?_)
  refine ph_iload_n (n := 1) X hl dX8_bolster_5 rfl rfl ?_
  refine lv_i2l X.1 X.2.1 dX8_bolster_6 rfl ?_
  refine lv_lconst (v := 1) X.1 X.2.1 dX8_bolster_7 (by decide) ?_
  refine lv_ldc2 (v := 6) X.1 X.2.1 X.2.2.2.1 (X.2.2.2.2.1 _ q2180) dX8_bolster_8 ?_
  refine tw_callSi [lX a1.toInt64, lX 1, lX 6] X hP (met_X8_isIn l D dA ad _ _ hF) (va_cwS 3 X.2.2.2.2.1 (lw_S q2144 q2145 q126 q2146) rfl rfl rfl (by decide +kernel) ⟨Nat.le_of_ble_eq_true rfl, Nat.le_of_ble_eq_true rfl⟩) rfl hl (k8 := 0) (cs0 (k := 0)) (by decide) ⟨Nat.le_refl _, Nat.le_refl _⟩ dX8_bolster_11 rfl (fun r8 σ7 H locs hF hP => ?_)
  refine lv_if_eq (tgt := 37) X.1 X.2.1 dX8_bolster_14 (by decide) (fun c10 => ?_) (fun c10 => ?_)
  · have hF := hF.1 c10
    exact w_X8_bolster_37 X _ _ _ _ hF hP (lh_sub hl [0] rfl)
  · have hF := hF.2 c10
    refine ph_aload_n (n := 0) X hl dX8_bolster_17 rfl rfl ?_
    refine tw_geti 29 X hP q1799 dX8_bolster_18 ?_
    refine ph_iload_n (n := 1) X hl dX8_bolster_21 rfl rfl ?_
    refine lv_ishr X.1 X.2.1 dX8_bolster_22 ?_
    refine lv_iconst (v := 1) X.1 X.2.1 dX8_bolster_23 (by decide) ?_
    refine lv_iand X.1 X.2.1 dX8_bolster_24 ?_
    refine ph_iload_n (n := 2) X hl dX8_bolster_25 rfl rfl ?_
    refine lv_if_eq (tgt := 33) X.1 X.2.1 dX8_bolster_26 (by decide) (fun c9 => ?_) (fun c9 => ?_)
    · have hF := hF.1 c9
      refine lv_iconst (v := 0) X.1 X.2.1 dX8_bolster_33 (by decide) ?_
      exact w_X8_bolster_34 X _ _ _ _ _ _ _ hF hP (lh_sub hl [0, 1] rfl)
    · have hF := hF.2 c9
      refine lv_iconst (v := 1) X.1 X.2.1 dX8_bolster_29 (by decide) ?_
      refine lv_goto (tgt := 34) X.1 X.2.1 dX8_bolster_30 (by decide) ?_
      exact w_X8_bolster_34 X _ _ _ _ _ _ _ hF hP (lh_sub hl [0, 1] rfl)
def P_X8_out (a1 : Int32) (a2 : Int32) (σ : S) (Q : Int32 → S → Prop) : Prop := (∀ σ1, σ1 = up2 σ 0 2 0 → (P_X8_isSleeper a1 σ1 (fun r3 σ2 => ((¬ r3 = 0 → (vp_in a1 14 ∧ (((σ2 4 a1.toNatClampNeg) = 3 → (P_X8_refuse 1 σ2 (fun r6 σ5 => (Q r6 σ5)))) ∧ (¬ (σ2 4 a1.toNatClampNeg) = 3 → (P_X8_isIn a2.toInt64 0 600 σ2 (fun r8 σ7 => ((¬ r8 = 0 → (P_X8_keep σ7 (fun σ9 => (vp_in a1 14 ∧ (vp_in a1 14 ∧ (∀ σ12, σ12 = up2 σ9 8 a1.toNatClampNeg a2 → (Q (σ9 8 a1.toNatClampNeg) σ12))))))) ∧ (r8 = 0 → (P_X8_refuse 1 σ7 (fun r15 σ14 => (Q r15 σ14))))))))))) ∧ (r3 = 0 → (P_X8_fail 1 σ2 (fun r19 σ18 => (Q r19 σ18))))))))
set_option maxHeartbeats 2000000 in
theorem met_X8_out (l : Launch) (D : va_G) (dA : Nat → ClassId) (ad : Nat → Nat) (σ : S) (sz : Nat) {a1 : Int32} {a2 : Int32} {Q : Int32 → S → Prop} (hF : P_X8_out a1 a2 σ Q) : CTi l yX8_out cX8_out 4 .int ({ frames := 2, cells := 0, slots := 0, locals := 46 } : Room) D dA ad σ sz [pX 200, iX a1, iX a2] Q := by
  unfold P_X8_out at hF
  refine ph_enter [pX 200, iX a1, iX a2] (Qc := fun A => va_Qi (TQi Q) (CB D dA ad A) A) (by decide +kernel) (Nat.le_of_ble_eq_true rfl) ?_
  intro p e s m args below meth c A ls X hP hl hnm
  have hl : LH ad ls 4 [(0, pX 200), (1, iX a1), (2, iX a2)] := hl
  refine ph_aload_n (n := 0) X hl dX8_out_0 rfl rfl ?_
  refine lv_iconst (v := 0) X.1 X.2.1 dX8_out_1 (by decide) ?_
  refine tw_puti 2 X hP q1772 dX8_out_2 hF (fun H locs σ1 hP hF => ?_)
  refine ph_aload_n (n := 0) X hl dX8_out_5 rfl rfl ?_
  refine ph_iload_n (n := 1) X hl dX8_out_6 rfl rfl ?_
  refine tw_callVi [iX a1] X hP (met_X8_isSleeper l D dA ad _ _ hF) (cwV 1 X.2.2.2.2.1 (lw_V q2140 q2142 qs69 q126 q2143) rfl rfl rfl (by decide +kernel) ⟨Nat.le_of_ble_eq_true rfl, Nat.le_of_ble_eq_true rfl⟩) rfl hl (k8 := 0) (cs0 (k := 0)) (by decide) ⟨Nat.le_refl _, Nat.le_refl _⟩ dX8_out_7 rfl (fun r3 σ2 H locs hF hP => ?_)
  refine lv_if_ne (tgt := 19) X.1 X.2.1 dX8_out_10 (by decide) (fun c20 => ?_) (fun c20 => ?_)
  · have hF := hF.1 c20
    refine ph_aload_n (n := 0) X hl dX8_out_19 rfl rfl ?_
    refine tw_getr 4 204 X hP q1774 dX8_out_20 ?_
    refine ph_iload_n (n := 1) X hl dX8_out_23 rfl rfl ?_
    obtain ⟨hr4, hF⟩ := hF
    refine tw_ald 4 (n := 14) X hP hr4 (k := a1.toNatClampNeg) rfl dX8_out_24 ?_
    refine lv_iconst (v := 3) X.1 X.2.1 dX8_out_25 (by decide) ?_
    refine lv_icmp_eq (tgt := 41) X.1 X.2.1 dX8_out_26 (by decide) (fun c17 => ?_) (fun c17 => ?_)
    · have hF := hF.1 c17
      refine ph_aload_n (n := 0) X hl dX8_out_41 rfl rfl ?_
      refine lv_iconst (v := 1) X.1 X.2.1 dX8_out_42 (by decide) ?_
      refine tw_callVi [iX 1] X hP (met_X8_refuse l D dA ad _ _ hF) (cwV 1 X.2.2.2.2.1 (lw_V q2167 q2169 qs73 q126 q2170) rfl rfl rfl (by decide +kernel) ⟨Nat.le_of_ble_eq_true rfl, Nat.le_of_ble_eq_true rfl⟩) rfl hl (k8 := 0) (cs0 (k := 0)) (by decide) ⟨Nat.le_refl _, Nat.le_refl _⟩ dX8_out_43 rfl (fun r6 σ5 H locs hF hP => ?_)
      exact tw_iret X hP hF dX8_out_46
    · have hF := hF.2 c17
      refine ph_iload_n (n := 2) X hl dX8_out_29 rfl rfl ?_
      refine lv_i2l X.1 X.2.1 dX8_out_30 rfl ?_
      refine lv_lconst (v := 0) X.1 X.2.1 dX8_out_31 (by decide) ?_
      refine lv_ldc2 (v := 600) X.1 X.2.1 X.2.2.2.1 (X.2.2.2.2.1 _ q2185) dX8_out_32 ?_
      refine tw_callSi [lX a2.toInt64, lX 0, lX 600] X hP (met_X8_isIn l D dA ad _ _ hF) (va_cwS 3 X.2.2.2.2.1 (lw_S q2144 q2145 q126 q2146) rfl rfl rfl (by decide +kernel) ⟨Nat.le_of_ble_eq_true rfl, Nat.le_of_ble_eq_true rfl⟩) rfl hl (k8 := 0) (cs0 (k := 0)) (by decide) ⟨Nat.le_refl _, Nat.le_refl _⟩ dX8_out_35 rfl (fun r8 σ7 H locs hF hP => ?_)
      refine lv_if_ne (tgt := 47) X.1 X.2.1 dX8_out_38 (by decide) (fun c16 => ?_) (fun c16 => ?_)
      · have hF := hF.1 c16
        refine ph_aload_n (n := 0) X hl dX8_out_47 rfl rfl ?_
        refine tw_callVv [] X hP (met_X8_keep l D dA ad _ _ hF) (cwV 0 X.2.2.2.2.1 (lw_V q2155 q2157 qs71 q126 q2158) rfl rfl rfl (by decide +kernel) ⟨Nat.le_of_ble_eq_true rfl, Nat.le_of_ble_eq_true rfl⟩) rfl hl (k8 := 0) (cs0 (k := 0)) (by decide) ⟨Nat.le_refl _, Nat.le_refl _⟩ dX8_out_48 rfl (fun σ9 H locs hF hP => ?_)
        refine ph_aload_n (n := 0) X hl dX8_out_51 rfl rfl ?_
        refine tw_getr 8 208 X hP q1778 dX8_out_52 ?_
        refine ph_iload_n (n := 1) X hl dX8_out_55 rfl rfl ?_
        obtain ⟨hr11, hF⟩ := hF
        refine tw_ald 8 (n := 14) X hP hr11 (k := a1.toNatClampNeg) rfl dX8_out_56 ?_
        refine ph_istore_n X hl dX8_out_57 rfl (by decide) rfl (fun ls hl => ?_)
        refine ph_aload_n (n := 1) X hl dX8_out_58 rfl rfl ?_
        refine tw_getr 8 208 X hP q1778 dX8_out_59 ?_
        refine ph_iload_n (n := 2) X hl dX8_out_62 rfl rfl ?_
        refine ph_iload_n (n := 3) X hl dX8_out_63 rfl rfl ?_
        obtain ⟨hr13, hF⟩ := hF
        refine tw_ast 8 (n := 14) X hP hr13 (k := a1.toNatClampNeg) rfl dX8_out_64 hF (fun H locs σ12 hP hF => ?_)
        refine ph_iload_n (n := 0) X hl dX8_out_65 rfl rfl ?_
        exact tw_iret X hP hF dX8_out_66
      · have hF := hF.2 c16
        refine ph_aload_n (n := 0) X hl dX8_out_41 rfl rfl ?_
        refine lv_iconst (v := 1) X.1 X.2.1 dX8_out_42 (by decide) ?_
        refine tw_callVi [iX 1] X hP (met_X8_refuse l D dA ad _ _ hF) (cwV 1 X.2.2.2.2.1 (lw_V q2167 q2169 qs73 q126 q2170) rfl rfl rfl (by decide +kernel) ⟨Nat.le_of_ble_eq_true rfl, Nat.le_of_ble_eq_true rfl⟩) rfl hl (k8 := 0) (cs0 (k := 0)) (by decide) ⟨Nat.le_refl _, Nat.le_refl _⟩ dX8_out_43 rfl (fun r15 σ14 H locs hF hP => ?_)
        exact tw_iret X hP hF dX8_out_46
  · have hF := hF.2 c20
    refine ph_aload_n (n := 0) X hl dX8_out_13 rfl rfl ?_
    refine lv_iconst (v := 1) X.1 X.2.1 dX8_out_14 (by decide) ?_
    refine tw_callVi [iX 1] X hP (met_X8_fail l D dA ad _ _ hF) (cwV 1 X.2.2.2.2.1 (lw_V q2002 q2004 qs44 q126 q2005) rfl rfl rfl (by decide +kernel) ⟨Nat.le_of_ble_eq_true rfl, Nat.le_of_ble_eq_true rfl⟩) rfl hl (k8 := 0) (cs0 (k := 0)) (by decide) ⟨Nat.le_refl _, Nat.le_refl _⟩ dX8_out_15 rfl (fun r19 σ18 H locs hF hP => ?_)
    exact tw_iret X hP hF dX8_out_18
def P_X8_undo  (σ : S) (Q : Int32 → S → Prop) : Prop := (∀ σ1, σ1 = up2 σ 0 2 0 → ((¬ (σ1 0 30) = 0 → (∀ σ2, σ2 = up2 σ1 0 30 ((σ1 0 30) - 1) → (P_X8_unpack 215 (18 * (σ2 0 30)) σ2 (fun σ3 => (Q (σ3 0 30) σ3))))) ∧ ((σ1 0 30) = 0 → (Q (-1) σ1))))
set_option maxHeartbeats 2000000 in
theorem met_X8_undo (l : Launch) (D : va_G) (dA : Nat → ClassId) (ad : Nat → Nat) (σ : S) (sz : Nat) {Q : Int32 → S → Prop} (hF : P_X8_undo  σ Q) : CTi l yX8_undo cX8_undo 1 .int ({ frames := 1, cells := 0, slots := 0, locals := 23 } : Room) D dA ad σ sz [pX 200] Q := by
  unfold P_X8_undo at hF
  refine ph_enter [pX 200] (Qc := fun A => va_Qi (TQi Q) (CB D dA ad A) A) (by decide +kernel) (Nat.le_of_ble_eq_true rfl) ?_
  intro p e s m args below meth c A ls X hP hl hnm
  have hl : LH ad ls 1 [(0, pX 200)] := hl
  refine ph_aload_n (n := 0) X hl dX8_undo_0 rfl rfl ?_
  refine lv_iconst (v := 0) X.1 X.2.1 dX8_undo_1 (by decide) ?_
  refine tw_puti 2 X hP q1772 dX8_undo_2 hF (fun H locs σ1 hP hF => ?_)
  refine ph_aload_n (n := 0) X hl dX8_undo_5 rfl rfl ?_
  refine tw_geti 30 X hP q1800 dX8_undo_6 ?_
  refine lv_if_ne (tgt := 14) X.1 X.2.1 dX8_undo_9 (by decide) (fun c5 => ?_) (fun c5 => ?_)
  · have hF := hF.1 c5
    refine ph_aload_n (n := 0) X hl dX8_undo_14 rfl rfl ?_
    refine ph_dup_r X dX8_undo_15 ?_
    refine tw_geti 30 X hP q1800 dX8_undo_16 ?_
    refine lv_iconst (v := 1) X.1 X.2.1 dX8_undo_19 (by decide) ?_
    refine lv_isub X.1 X.2.1 dX8_undo_20 ?_
    refine tw_puti 30 X hP q1800 dX8_undo_21 hF (fun H locs σ2 hP hF => ?_)
    refine ph_aload_n (n := 0) X hl dX8_undo_24 rfl rfl ?_
    refine ph_aload_n (n := 0) X hl dX8_undo_25 rfl rfl ?_
    refine tw_getr 25 215 X hP q1795 dX8_undo_26 ?_
    refine lv_bipush (v := 18) X.1 X.2.1 dX8_undo_29 (by decide) ?_
    refine ph_aload_n (n := 0) X hl dX8_undo_31 rfl rfl ?_
    refine tw_geti 30 X hP q1800 dX8_undo_32 ?_
    refine lv_imul X.1 X.2.1 dX8_undo_35 ?_
    refine tw_callVv [pX 215, iX (18 * (σ2 0 30))] X hP (met_X8_unpack l D dA ad _ _ hF) (cwV 2 X.2.2.2.2.1 (lw_V q2190 q2192 qs74 q126 q2193) rfl rfl rfl (by decide +kernel) ⟨Nat.le_of_ble_eq_true rfl, Nat.le_of_ble_eq_true rfl⟩) rfl hl (k8 := 0) (cs0 (k := 0)) (by decide) ⟨Nat.le_refl _, Nat.le_refl _⟩ dX8_undo_36 rfl (fun σ3 H locs hF hP => ?_)
    refine ph_aload_n (n := 0) X hl dX8_undo_39 rfl rfl ?_
    refine tw_geti 30 X hP q1800 dX8_undo_40 ?_
    exact tw_iret X hP hF dX8_undo_43
  · have hF := hF.2 c5
    refine lv_iconst (v := (-1)) X.1 X.2.1 dX8_undo_12 (by decide) ?_
    exact tw_iret X hP hF dX8_undo_13
def P_X8_isAwake (a1 : Int32) (σ : S) (Q : Int32 → S → Prop) : Prop := (vp_in a1 7 ∧ (((σ 3 4) ≤ ((σ 0 50) - (σ 22 a1.toNatClampNeg)) → (Q 0 σ)) ∧ (¬ (σ 3 4) ≤ ((σ 0 50) - (σ 22 a1.toNatClampNeg)) → (Q 1 σ))))
set_option maxHeartbeats 2000000 in
theorem met_X8_isAwake (l : Launch) (D : va_G) (dA : Nat → ClassId) (ad : Nat → Nat) (σ : S) (sz : Nat) {a1 : Int32} {Q : Int32 → S → Prop} (hF : P_X8_isAwake a1 σ Q) : CTi l yX8_isAwake cX8_isAwake 2 .boolean ({ frames := 0, cells := 0, slots := 0, locals := 0 } : Room) D dA ad σ sz [pX 200, iX a1] Q := by
  unfold P_X8_isAwake at hF
  refine ph_enter [pX 200, iX a1] (Qc := fun A => va_Qi (TQi Q) (CB D dA ad A) A) (by decide +kernel) (Nat.le_of_ble_eq_true rfl) ?_
  intro p e s m args below meth c A ls X hP hl hnm
  have hl : LH ad ls 2 [(0, pX 200), (1, iX a1)] := hl
  refine ph_aload_n (n := 0) X hl dX8_isAwake_0 rfl rfl ?_
  refine tw_geti 50 X hP q1820 dX8_isAwake_1 ?_
  refine ph_aload_n (n := 0) X hl dX8_isAwake_4 rfl rfl ?_
  refine tw_getr 38 222 X hP q1808 dX8_isAwake_5 ?_
  refine ph_iload_n (n := 1) X hl dX8_isAwake_8 rfl rfl ?_
  obtain ⟨hr1, hF⟩ := hF
  refine tw_ald 22 (n := 7) X hP hr1 (k := a1.toNatClampNeg) rfl dX8_isAwake_9 ?_
  refine lv_isub X.1 X.2.1 dX8_isAwake_10 ?_
  refine ph_aload_n (n := 0) X hl dX8_isAwake_11 rfl rfl ?_
  refine tw_getr 3 203 X hP q1773 dX8_isAwake_12 ?_
  refine lv_iconst (v := 4) X.1 X.2.1 dX8_isAwake_15 (by decide) ?_
  refine tw_ald 3 (n := 16) X hP (vin (by decide)) (k := 4) (by decide) dX8_isAwake_16 ?_
  refine lv_icmp_ge (tgt := 24) X.1 X.2.1 dX8_isAwake_17 (by decide) (fun c2 => ?_) (fun c2 => ?_)
  · have hF := hF.1 c2
    refine lv_iconst (v := 0) X.1 X.2.1 dX8_isAwake_24 (by decide) ?_
    exact tw_zret X hP isB_0 hF dX8_isAwake_25
  · have hF := hF.2 c2
    refine lv_iconst (v := 1) X.1 X.2.1 dX8_isAwake_20 (by decide) ?_
    refine lv_goto (tgt := 25) X.1 X.2.1 dX8_isAwake_21 (by decide) ?_
    exact tw_zret X hP isB_1 hF dX8_isAwake_25
def P_X8_isDeaf_20 (Q : Int32 → S → Prop)  (σ : S) : Prop := (Q 1 σ)
def P_X8_isDeaf (a1 : Int32) (σ : S) (Q : Int32 → S → Prop) : Prop := (vp_in a1 14 ∧ (((σ 4 a1.toNatClampNeg) = 1 → (P_X8_isDeaf_20 Q σ)) ∧ (¬ (σ 4 a1.toNatClampNeg) = 1 → (vp_in a1 14 ∧ ((¬ (σ 4 a1.toNatClampNeg) = 3 → (Q 0 σ)) ∧ ((σ 4 a1.toNatClampNeg) = 3 → (P_X8_isDeaf_20 Q σ)))))))
set_option maxHeartbeats 2000000 in
theorem w_X8_isDeaf_20 (X : CX p s m args c meth cX8_isDeaf 2 (some .boolean) RX8 D dA ad A) {Q : Int32 → S → Prop} : ∀  (σ : S) (H : Heap) (locs : List Loc) (ls : Array Slot), P_X8_isDeaf_20 Q  σ → PW D dA A s.heap ad (TH σ) H locs → LH ad ls 2 [(0, pX 200)] → WTi p l e ({ frames := 0, cells := 0, slots := 0, locals := 0 } : Room) s m args below meth c D dA ad A Q H locs (F0 m 20 ls []) := by
  intro  σ H locs ls hF hP hl
  unfold P_X8_isDeaf_20 at hF
  refine lv_iconst (v := 1) X.1 X.2.1 dX8_isDeaf_20 (by decide) ?_
  refine lv_goto (tgt := 25) X.1 X.2.1 dX8_isDeaf_21 (by decide) ?_
  exact tw_zret X hP isB_1 hF dX8_isDeaf_25
set_option maxHeartbeats 2000000 in
theorem met_X8_isDeaf (l : Launch) (D : va_G) (dA : Nat → ClassId) (ad : Nat → Nat) (σ : S) (sz : Nat) {a1 : Int32} {Q : Int32 → S → Prop} (hF : P_X8_isDeaf a1 σ Q) : CTi l yX8_isDeaf cX8_isDeaf 2 .boolean ({ frames := 0, cells := 0, slots := 0, locals := 0 } : Room) D dA ad σ sz [pX 200, iX a1] Q := by
  unfold P_X8_isDeaf at hF
  refine ph_enter [pX 200, iX a1] (Qc := fun A => va_Qi (TQi Q) (CB D dA ad A) A) (by decide +kernel) (Nat.le_of_ble_eq_true rfl) ?_
  intro p e s m args below meth c A ls X hP hl hnm
  have hl : LH ad ls 2 [(0, pX 200), (1, iX a1)] := hl
  refine ph_aload_n (n := 0) X hl dX8_isDeaf_0 rfl rfl ?_
  refine tw_getr 4 204 X hP q1774 dX8_isDeaf_1 ?_
  refine ph_iload_n (n := 1) X hl dX8_isDeaf_4 rfl rfl ?_
  obtain ⟨hr1, hF⟩ := hF
  refine tw_ald 4 (n := 14) X hP hr1 (k := a1.toNatClampNeg) rfl dX8_isDeaf_5 ?_
  refine lv_iconst (v := 1) X.1 X.2.1 dX8_isDeaf_6 (by decide) ?_
  refine lv_icmp_eq (tgt := 20) X.1 X.2.1 dX8_isDeaf_7 (by decide) (fun c4 => ?_) (fun c4 => ?_)
  · have hF := hF.1 c4
    exact w_X8_isDeaf_20 X _ _ _ _ hF hP (lh_sub hl [0] rfl)
  · have hF := hF.2 c4
    refine ph_aload_n (n := 0) X hl dX8_isDeaf_10 rfl rfl ?_
    refine tw_getr 4 204 X hP q1774 dX8_isDeaf_11 ?_
    refine ph_iload_n (n := 1) X hl dX8_isDeaf_14 rfl rfl ?_
    obtain ⟨hr2, hF⟩ := hF
    refine tw_ald 4 (n := 14) X hP hr2 (k := a1.toNatClampNeg) rfl dX8_isDeaf_15 ?_
    refine lv_iconst (v := 3) X.1 X.2.1 dX8_isDeaf_16 (by decide) ?_
    refine lv_icmp_ne (tgt := 24) X.1 X.2.1 dX8_isDeaf_17 (by decide) (fun c3 => ?_) (fun c3 => ?_)
    · have hF := hF.1 c3
      refine lv_iconst (v := 0) X.1 X.2.1 dX8_isDeaf_24 (by decide) ?_
      exact tw_zret X hP isB_0 hF dX8_isDeaf_25
    · have hF := hF.2 c3
      exact w_X8_isDeaf_20 X _ _ _ _ hF hP (lh_sub hl [0] rfl)
end TWA
