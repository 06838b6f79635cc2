set_option maxRecDepth 100000
section TWA
variable {p : Program} {l : Launch} {e : Env} {s : State} {m : MethodId} {args : Array Value} {below : List Frame} {meth : Method} {c : Code} {D : va_G} {dA : Nat → ClassId} {ad : Nat → Nat} {A : Nat → Prop}
def P_X8_snorersBeside_26 (Q : Int32 → S → Prop) (y0 : Int32) (x1 : Int32) (σ : S) : Prop := (((σ 0 45) ≤ (x1 + 1) → (Q (y0 + 0) σ)) ∧ (¬ (σ 0 45) ≤ (x1 + 1) → (vp_in (x1 + 1) 7 ∧ (vp_in (σ 18 ((x1 + 1).toNatClampNeg)) 14 ∧ ((¬ (σ 4 ((σ 18 ((x1 + 1).toNatClampNeg)).toNatClampNeg)) = 2 → (Q (y0 + 0) σ)) ∧ ((σ 4 ((σ 18 ((x1 + 1).toNatClampNeg)).toNatClampNeg)) = 2 → (Q (y0 + 1) σ)))))))
def P_X8_snorersBeside_25 (Q : Int32 → S → Prop) (x1 : Int32) (σ : S) : Prop := (P_X8_snorersBeside_26 Q 0 x1 σ)
def P_X8_snorersBeside (a1 : Int32) (σ : S) (Q : Int32 → S → Prop) : Prop := ((a1 ≤ 0 → (P_X8_snorersBeside_25 Q a1 σ)) ∧ (¬ a1 ≤ 0 → (vp_in (a1 - 1) 7 ∧ (vp_in (σ 18 ((a1 - 1).toNatClampNeg)) 14 ∧ ((¬ (σ 4 ((σ 18 ((a1 - 1).toNatClampNeg)).toNatClampNeg)) = 2 → (P_X8_snorersBeside_25 Q a1 σ)) ∧ ((σ 4 ((σ 18 ((a1 - 1).toNatClampNeg)).toNatClampNeg)) = 2 → (P_X8_snorersBeside_26 Q 1 a1 σ)))))))
set_option maxHeartbeats 2000000 in
theorem w_X8_snorersBeside_26 (X : CX p s m args c meth cX8_snorersBeside 2 (some .int) RX8 D dA ad A) {Q : Int32 → S → Prop} : ∀ (y0 : Int32) (x1 : Int32) (σ : S) (H : Heap) (locs : List Loc) (ls : Array Slot), P_X8_snorersBeside_26 Q y0 x1 σ → PW D dA A s.heap ad (TH σ) H locs → LH ad ls 2 [(0, pX 200), (1, iX x1)] → WTi p l e ({ frames := 0, cells := 0, slots := 0, locals := 0 } : Room) s m args below meth c D dA ad A Q H locs (F0 m 26 ls [.int y0]) := by
  intro y0 x1 σ H locs ls hF hP hl
  unfold P_X8_snorersBeside_26 at hF
  refine ph_iload_n (n := 1) X hl dX8_snorersBeside_26 rfl rfl ?_
  refine lv_iconst (v := 1) X.1 X.2.1 dX8_snorersBeside_27 (by decide) ?_
  refine lv_iadd X.1 X.2.1 dX8_snorersBeside_28 ?_
  refine ph_aload_n (n := 0) X hl dX8_snorersBeside_29 rfl rfl ?_
  refine tw_geti 45 X hP q1815 dX8_snorersBeside_30 ?_
  refine lv_icmp_ge (tgt := 57) X.1 X.2.1 dX8_snorersBeside_33 (by decide) (fun c4 => ?_) (fun c4 => ?_)
  · have hF := hF.1 c4
    refine lv_iconst (v := 0) X.1 X.2.1 dX8_snorersBeside_57 (by decide) ?_
    refine lv_iadd X.1 X.2.1 dX8_snorersBeside_58 ?_
    exact tw_iret X hP hF dX8_snorersBeside_59
  · have hF := hF.2 c4
    refine ph_aload_n (n := 0) X hl dX8_snorersBeside_36 rfl rfl ?_
    refine tw_getr 4 204 X hP q1774 dX8_snorersBeside_37 ?_
    refine ph_aload_n (n := 0) X hl dX8_snorersBeside_40 rfl rfl ?_
    refine tw_getr 34 218 X hP q1804 dX8_snorersBeside_41 ?_
    refine ph_iload_n (n := 1) X hl dX8_snorersBeside_44 rfl rfl ?_
    refine lv_iconst (v := 1) X.1 X.2.1 dX8_snorersBeside_45 (by decide) ?_
    refine lv_iadd X.1 X.2.1 dX8_snorersBeside_46 ?_
    obtain ⟨hr1, hF⟩ := hF
    refine tw_ald 18 (n := 7) X hP hr1 (k := (x1 + 1).toNatClampNeg) rfl dX8_snorersBeside_47 ?_
    obtain ⟨hr2, hF⟩ := hF
    refine tw_ald 4 (n := 14) X hP hr2 (k := (σ 18 ((x1 + 1).toNatClampNeg)).toNatClampNeg) rfl dX8_snorersBeside_48 ?_
    refine lv_iconst (v := 2) X.1 X.2.1 dX8_snorersBeside_49 (by decide) ?_
    refine lv_icmp_ne (tgt := 57) X.1 X.2.1 dX8_snorersBeside_50 (by decide) (fun c3 => ?_) (fun c3 => ?_)
    · have hF := hF.1 c3
      refine lv_iconst (v := 0) X.1 X.2.1 dX8_snorersBeside_57 (by decide) ?_
      refine lv_iadd X.1 X.2.1 dX8_snorersBeside_58 ?_
      exact tw_iret X hP hF dX8_snorersBeside_59
    · have hF := hF.2 c3
      refine lv_iconst (v := 1) X.1 X.2.1 dX8_snorersBeside_53 (by decide) ?_
      refine lv_goto (tgt := 58) X.1 X.2.1 dX8_snorersBeside_54 (by decide) ?_
      refine lv_iadd X.1 X.2.1 dX8_snorersBeside_58 ?_
      exact tw_iret X hP hF dX8_snorersBeside_59
set_option maxHeartbeats 2000000 in
theorem w_X8_snorersBeside_25 (X : CX p s m args c meth cX8_snorersBeside 2 (some .int) RX8 D dA ad A) {Q : Int32 → S → Prop} : ∀ (x1 : Int32) (σ : S) (H : Heap) (locs : List Loc) (ls : Array Slot), P_X8_snorersBeside_25 Q x1 σ → PW D dA A s.heap ad (TH σ) H locs → LH ad ls 2 [(0, pX 200), (1, iX x1)] → WTi p l e ({ frames := 0, cells := 0, slots := 0, locals := 0 } : Room) s m args below meth c D dA ad A Q H locs (F0 m 25 ls []) := by
  intro x1 σ H locs ls hF hP hl
  unfold P_X8_snorersBeside_25 at hF
  refine lv_iconst (v := 0) X.1 X.2.1 dX8_snorersBeside_25 (by decide) ?_
  exact w_X8_snorersBeside_26 X _ _ _ _ _ _ hF hP hl
set_option maxHeartbeats 2000000 in
theorem met_X8_snorersBeside (l : Launch) (D : va_G) (dA : Nat → ClassId) (ad : Nat → Nat) (σ : S) (sz : Nat) {a1 : Int32} {Q : Int32 → S → Prop} (hF : P_X8_snorersBeside a1 σ Q) : CTi l yX8_snorersBeside cX8_snorersBeside 2 .int ({ frames := 0, cells := 0, slots := 0, locals := 0 } : Room) D dA ad σ sz [pX 200, iX a1] Q := by
  unfold P_X8_snorersBeside at hF
  refine ph_enter [pX 200, iX a1] (Qc := fun A => va_Qi (TQi Q) (CB D dA ad A) A) (by decide +kernel) (Nat.le_of_ble_eq_true rfl) ?_
  intro p e s m args below meth c A ls X hP hl hnm
  have hl : LH ad ls 2 [(0, pX 200), (1, iX a1)] := hl
  refine ph_iload_n (n := 1) X hl dX8_snorersBeside_0 rfl rfl ?_
  refine lv_if_le (tgt := 25) X.1 X.2.1 dX8_snorersBeside_1 (by decide) (fun c8 => ?_) (fun c8 => ?_)
  · have hF := hF.1 c8
    exact w_X8_snorersBeside_25 X _ _ _ _ _ hF hP hl
  · have hF := hF.2 c8
    refine ph_aload_n (n := 0) X hl dX8_snorersBeside_4 rfl rfl ?_
    refine tw_getr 4 204 X hP q1774 dX8_snorersBeside_5 ?_
    refine ph_aload_n (n := 0) X hl dX8_snorersBeside_8 rfl rfl ?_
    refine tw_getr 34 218 X hP q1804 dX8_snorersBeside_9 ?_
    refine ph_iload_n (n := 1) X hl dX8_snorersBeside_12 rfl rfl ?_
    refine lv_iconst (v := 1) X.1 X.2.1 dX8_snorersBeside_13 (by decide) ?_
    refine lv_isub X.1 X.2.1 dX8_snorersBeside_14 ?_
    obtain ⟨hr5, hF⟩ := hF
    refine tw_ald 18 (n := 7) X hP hr5 (k := (a1 - 1).toNatClampNeg) rfl dX8_snorersBeside_15 ?_
    obtain ⟨hr6, hF⟩ := hF
    refine tw_ald 4 (n := 14) X hP hr6 (k := (σ 18 ((a1 - 1).toNatClampNeg)).toNatClampNeg) rfl dX8_snorersBeside_16 ?_
    refine lv_iconst (v := 2) X.1 X.2.1 dX8_snorersBeside_17 (by decide) ?_
    refine lv_icmp_ne (tgt := 25) X.1 X.2.1 dX8_snorersBeside_18 (by decide) (fun c7 => ?_) (fun c7 => ?_)
    · have hF := hF.1 c7
      exact w_X8_snorersBeside_25 X _ _ _ _ _ hF hP hl
    · have hF := hF.2 c7
      refine lv_iconst (v := 1) X.1 X.2.1 dX8_snorersBeside_21 (by decide) ?_
      refine lv_goto (tgt := 26) X.1 X.2.1 dX8_snorersBeside_22 (by decide) ?_
      exact w_X8_snorersBeside_26 X _ _ _ _ _ _ hF hP hl
def P_X8_reckon_112 (Q : Int32 → S → Prop)  (σ : S) : Prop := (Q 1 σ)
def P_X8_reckon (a0 : Int32) (a1 : Int32) (a2 : Int32) (σ : S) (Q : Int32 → S → Prop) : Prop := ((a0 = (-26) → ((a1 = 0 → (Q 0 σ)) ∧ (¬ a1 = 0 → ((a2 = 0 → (Q 0 σ)) ∧ (¬ a2 = 0 → (Q 1 σ)))))) ∧ (a0 = (-25) → ((¬ a1 = a2 → (Q 0 σ)) ∧ (a1 = a2 → (Q 1 σ)))) ∧ (a0 = (-24) → ((a2 ≤ a1 → (Q 0 σ)) ∧ (¬ a2 ≤ a1 → (Q 1 σ)))) ∧ (a0 = (-23) → ((¬ a2 = 0 → (¬ a2 = 0 ∧ (Q (a1 / a2) σ))) ∧ (a2 = 0 → (Q 0 σ)))) ∧ (a0 = (-22) → (Q (a1 * a2) σ)) ∧ (a0 = (-21) → (Q (a1 - a2) σ)) ∧ (a0 = (-20) → (Q (a1 + a2) σ)) ∧ ((a0.toInt < -26 ∨ -20 < a0.toInt) → ((¬ a1 = 0 → (P_X8_reckon_112 Q σ)) ∧ (a1 = 0 → ((a2 = 0 → (Q 0 σ)) ∧ (¬ a2 = 0 → (P_X8_reckon_112 Q σ)))))))
set_option maxHeartbeats 2000000 in
theorem w_X8_reckon_112 (X : CX p s m args c meth cX8_reckon 3 (some .int) RX8 D dA ad A) {Q : Int32 → S → Prop} : ∀  (σ : S) (H : Heap) (locs : List Loc) (ls : Array Slot), P_X8_reckon_112 Q  σ → PW D dA A s.heap ad (TH σ) H locs → LH ad ls 3 [] → WTi p l e ({ frames := 0, cells := 0, slots := 0, locals := 0 } : Room) s m args below meth c D dA ad A Q H locs (F0 m 112 ls []) := by
  intro  σ H locs ls hF hP hl
  unfold P_X8_reckon_112 at hF
  refine lv_iconst (v := 1) X.1 X.2.1 dX8_reckon_112 (by decide) ?_
  refine lv_goto (tgt := 117) X.1 X.2.1 dX8_reckon_113 (by decide) ?_
  exact tw_iret X hP hF dX8_reckon_117
set_option maxHeartbeats 2000000 in
theorem met_X8_reckon (l : Launch) (D : va_G) (dA : Nat → ClassId) (ad : Nat → Nat) (σ : S) (sz : Nat) {a0 : Int32} {a1 : Int32} {a2 : Int32} {Q : Int32 → S → Prop} (hF : P_X8_reckon a0 a1 a2 σ Q) : CTi l yX8_reckon cX8_reckon 3 .int ({ frames := 0, cells := 0, slots := 0, locals := 0 } : Room) D dA ad σ sz [iX a0, iX a1, iX a2] Q := by
  unfold P_X8_reckon at hF
  refine ph_enter [iX a0, iX a1, iX a2] (Qc := fun A => va_Qi (TQi Q) (CB D dA ad A) A) (by decide +kernel) (Nat.le_of_ble_eq_true rfl) ?_
  intro p e s m args below meth c A ls X hP hl hnm
  have hl : LH ad ls 3 [(0, iX a0), (1, iX a1), (2, iX a2)] := hl
  refine ph_iload_n (n := 0) X hl dX8_reckon_0 rfl rfl ?_
  rcases ts_cases a0 (-26) 7 with ⟨j9, hs1⟩ | hs1
  · obtain ⟨hj9, hs1⟩ := hs1
    rcases ts_lt7 hj9 with rfl | rfl | rfl | rfl | rfl | rfl | rfl
    · have hx9 : a0 = (-26) := hs1.trans (by decide)
      have hF := hF.1 hx9
      refine lv_tableIn (tgt := 90) (off := 89) X.1 X.2.1 dX8_reckon_1 (by rw [hx9]; decide) (by rw [hx9]; decide) (by rw [hx9]; decide) (by decide) ?_
      refine ph_iload_n (n := 1) X hl dX8_reckon_90 rfl rfl ?_
      refine lv_if_eq (tgt := 102) X.1 X.2.1 dX8_reckon_91 (by decide) (fun c3 => ?_) (fun c3 => ?_)
      · have hF := hF.1 c3
        refine lv_iconst (v := 0) X.1 X.2.1 dX8_reckon_102 (by decide) ?_
        exact tw_iret X hP hF dX8_reckon_103
      · have hF := hF.2 c3
        refine ph_iload_n (n := 2) X hl dX8_reckon_94 rfl rfl ?_
        refine lv_if_eq (tgt := 102) X.1 X.2.1 dX8_reckon_95 (by decide) (fun c2 => ?_) (fun c2 => ?_)
        · have hF := hF.1 c2
          refine lv_iconst (v := 0) X.1 X.2.1 dX8_reckon_102 (by decide) ?_
          exact tw_iret X hP hF dX8_reckon_103
        · have hF := hF.2 c2
          refine lv_iconst (v := 1) X.1 X.2.1 dX8_reckon_98 (by decide) ?_
          refine lv_goto (tgt := 103) X.1 X.2.1 dX8_reckon_99 (by decide) ?_
          exact tw_iret X hP hF dX8_reckon_103
    · have hx9 : a0 = (-25) := hs1.trans (by decide)
      have hF := hF.2.1 hx9
      refine lv_tableIn (tgt := 79) (off := 78) X.1 X.2.1 dX8_reckon_1 (by rw [hx9]; decide) (by rw [hx9]; decide) (by rw [hx9]; decide) (by decide) ?_
      refine ph_iload_n (n := 1) X hl dX8_reckon_79 rfl rfl ?_
      refine ph_iload_n (n := 2) X hl dX8_reckon_80 rfl rfl ?_
      refine lv_icmp_ne (tgt := 88) X.1 X.2.1 dX8_reckon_81 (by decide) (fun c4 => ?_) (fun c4 => ?_)
      · have hF := hF.1 c4
        refine lv_iconst (v := 0) X.1 X.2.1 dX8_reckon_88 (by decide) ?_
        exact tw_iret X hP hF dX8_reckon_89
      · have hF := hF.2 c4
        refine lv_iconst (v := 1) X.1 X.2.1 dX8_reckon_84 (by decide) ?_
        refine lv_goto (tgt := 89) X.1 X.2.1 dX8_reckon_85 (by decide) ?_
        exact tw_iret X hP hF dX8_reckon_89
    · have hx9 : a0 = (-24) := hs1.trans (by decide)
      have hF := hF.2.2.1 hx9
      refine lv_tableIn (tgt := 68) (off := 67) X.1 X.2.1 dX8_reckon_1 (by rw [hx9]; decide) (by rw [hx9]; decide) (by rw [hx9]; decide) (by decide) ?_
      refine ph_iload_n (n := 1) X hl dX8_reckon_68 rfl rfl ?_
      refine ph_iload_n (n := 2) X hl dX8_reckon_69 rfl rfl ?_
      refine lv_icmp_ge (tgt := 77) X.1 X.2.1 dX8_reckon_70 (by decide) (fun c5 => ?_) (fun c5 => ?_)
      · have hF := hF.1 c5
        refine lv_iconst (v := 0) X.1 X.2.1 dX8_reckon_77 (by decide) ?_
        exact tw_iret X hP hF dX8_reckon_78
      · have hF := hF.2 c5
        refine lv_iconst (v := 1) X.1 X.2.1 dX8_reckon_73 (by decide) ?_
        refine lv_goto (tgt := 78) X.1 X.2.1 dX8_reckon_74 (by decide) ?_
        exact tw_iret X hP hF dX8_reckon_78
    · have hx9 : a0 = (-23) := hs1.trans (by decide)
      have hF := hF.2.2.2.1 hx9
      refine lv_tableIn (tgt := 56) (off := 55) X.1 X.2.1 dX8_reckon_1 (by rw [hx9]; decide) (by rw [hx9]; decide) (by rw [hx9]; decide) (by decide) ?_
      refine ph_iload_n (n := 2) X hl dX8_reckon_56 rfl rfl ?_
      refine lv_if_ne (tgt := 64) X.1 X.2.1 dX8_reckon_57 (by decide) (fun c7 => ?_) (fun c7 => ?_)
      · have hF := hF.1 c7
        refine ph_iload_n (n := 1) X hl dX8_reckon_64 rfl rfl ?_
        refine ph_iload_n (n := 2) X hl dX8_reckon_65 rfl rfl ?_
        obtain ⟨hz6, hF⟩ := hF
        refine lv_idiv X.1 X.2.1 dX8_reckon_66 hz6 ?_
        exact tw_iret X hP hF dX8_reckon_67
      · have hF := hF.2 c7
        refine lv_iconst (v := 0) X.1 X.2.1 dX8_reckon_60 (by decide) ?_
        refine lv_goto (tgt := 67) X.1 X.2.1 dX8_reckon_61 (by decide) ?_
        exact tw_iret X hP hF dX8_reckon_67
    · have hx9 : a0 = (-22) := hs1.trans (by decide)
      have hF := hF.2.2.2.2.1 hx9
      refine lv_tableIn (tgt := 52) (off := 51) X.1 X.2.1 dX8_reckon_1 (by rw [hx9]; decide) (by rw [hx9]; decide) (by rw [hx9]; decide) (by decide) ?_
      refine ph_iload_n (n := 1) X hl dX8_reckon_52 rfl rfl ?_
      refine ph_iload_n (n := 2) X hl dX8_reckon_53 rfl rfl ?_
      refine lv_imul X.1 X.2.1 dX8_reckon_54 ?_
      exact tw_iret X hP hF dX8_reckon_55
    · have hx9 : a0 = (-21) := hs1.trans (by decide)
      have hF := hF.2.2.2.2.2.1 hx9
      refine lv_tableIn (tgt := 48) (off := 47) X.1 X.2.1 dX8_reckon_1 (by rw [hx9]; decide) (by rw [hx9]; decide) (by rw [hx9]; decide) (by decide) ?_
      refine ph_iload_n (n := 1) X hl dX8_reckon_48 rfl rfl ?_
      refine ph_iload_n (n := 2) X hl dX8_reckon_49 rfl rfl ?_
      refine lv_isub X.1 X.2.1 dX8_reckon_50 ?_
      exact tw_iret X hP hF dX8_reckon_51
    · have hx9 : a0 = (-20) := hs1.trans (by decide)
      have hF := hF.2.2.2.2.2.2.1 hx9
      refine lv_tableIn (tgt := 44) (off := 43) X.1 X.2.1 dX8_reckon_1 (by rw [hx9]; decide) (by rw [hx9]; decide) (by rw [hx9]; decide) (by decide) ?_
      refine ph_iload_n (n := 1) X hl dX8_reckon_44 rfl rfl ?_
      refine ph_iload_n (n := 2) X hl dX8_reckon_45 rfl rfl ?_
      refine lv_iadd X.1 X.2.1 dX8_reckon_46 ?_
      exact tw_iret X hP hF dX8_reckon_47
  · have hs1 : a0.toInt < -26 ∨ -20 < a0.toInt := by omega
    have hF := hF.2.2.2.2.2.2.2 hs1
    refine lv_tableOut (tgt := 104) X.1 X.2.1 dX8_reckon_1 hs1 (by decide) ?_
    refine ph_iload_n (n := 1) X hl dX8_reckon_104 rfl rfl ?_
    refine lv_if_ne (tgt := 112) X.1 X.2.1 dX8_reckon_105 (by decide) (fun c9 => ?_) (fun c9 => ?_)
    · have hF := hF.1 c9
      exact w_X8_reckon_112 X _ _ _ _ hF hP (lh_sub hl [] rfl)
    · have hF := hF.2 c9
      refine ph_iload_n (n := 2) X hl dX8_reckon_108 rfl rfl ?_
      refine lv_if_eq (tgt := 116) X.1 X.2.1 dX8_reckon_109 (by decide) (fun c8 => ?_) (fun c8 => ?_)
      · have hF := hF.1 c8
        refine lv_iconst (v := 0) X.1 X.2.1 dX8_reckon_116 (by decide) ?_
        exact tw_iret X hP hF dX8_reckon_117
      · have hF := hF.2 c8
        exact w_X8_reckon_112 X _ _ _ _ hF hP (lh_sub hl [] rfl)
def P_X8_valueNow_85 (Q : Int32 → S → Prop) (k4 : Int32 → Int32 → S → Prop) (y1 : Int32) (y2 : Int32) (x1 : Int32) (x2 : Int32) (σ : S) : Prop := (vp_in y1 64 ∧ (∀ σ1, σ1 = up2 σ 17 y1.toNatClampNeg y2 → (k4 x1 (x2 + 1) σ1)))
def P_X8_valueNow_49 (Q : Int32 → S → Prop) (k4 : Int32 → Int32 → S → Prop) (y1 : Int32) (y2 : Int32) (x1 : Int32) (x2 : Int32) (σ : S) : Prop := (vp_in y1 64 ∧ (∀ σ3, σ3 = up2 σ 17 y1.toNatClampNeg y2 → (k4 (x1 + 1) (x2 + 1) σ3)))
def P_X8_valueNow_4 (Q : Int32 → S → Prop) : Nat → Int32 → Int32 → S → Prop
  | 0, _, _, _ => False
  | n + 1, x1, x2, σ => (((σ 3 7) ≤ x2 → (Q (σ 17 0) σ)) ∧ (¬ (σ 3 7) ≤ x2 → (vp_in x2 1200 ∧ (((σ 11 x2.toNatClampNeg) ≤ (-20) → ((¬ (σ 11 x2.toNatClampNeg) = (-28) → (vp_in ((x1 + (-1)) - 1) 64 ∧ (vp_in (x1 + (-1)) 64 ∧ (P_X8_reckon (σ 11 x2.toNatClampNeg) (σ 17 (((x1 + (-1)) - 1).toNatClampNeg)) (σ 17 ((x1 + (-1)).toNatClampNeg)) σ (fun r9 σ8 => (vp_in ((x1 + (-1)) - 1) 64 ∧ (∀ σ10, σ10 = up2 σ8 17 (((x1 + (-1)) - 1).toNatClampNeg) r9 → (P_X8_valueNow_4 Q  n (x1 + (-1)) (x2 + 1) σ10)))))))) ∧ ((σ 11 x2.toNatClampNeg) = (-28) → (vp_in (x1 - 1) 64 ∧ (((σ 17 ((x1 - 1).toNatClampNeg)) = 0 → (P_X8_valueNow_85 Q (fun z0 z1 z2 => P_X8_valueNow_4 Q  n z0 z1 z2) (x1 - 1) 1 x1 x2 σ)) ∧ (¬ (σ 17 ((x1 - 1).toNatClampNeg)) = 0 → (P_X8_valueNow_85 Q (fun z0 z1 z2 => P_X8_valueNow_4 Q  n z0 z1 z2) (x1 - 1) 0 x1 x2 σ))))))) ∧ (¬ (σ 11 x2.toNatClampNeg) ≤ (-20) → (((σ 11 x2.toNatClampNeg) < 0 → (vp_in ((-1) - (σ 11 x2.toNatClampNeg)) 7 ∧ (P_X8_valueNow_49 Q (fun z0 z1 z2 => P_X8_valueNow_4 Q  n z0 z1 z2) x1 (σ 16 (((-1) - (σ 11 x2.toNatClampNeg)).toNatClampNeg)) x1 x2 σ))) ∧ (¬ (σ 11 x2.toNatClampNeg) < 0 → (P_X8_valueNow_49 Q (fun z0 z1 z2 => P_X8_valueNow_4 Q  n z0 z1 z2) x1 (σ 11 x2.toNatClampNeg) x1 x2 σ))))))))
def P_X8_valueNow  (σ : S) (Q : Int32 → S → Prop) : Prop := (∃ n9, P_X8_valueNow_4 Q n9 0 0 σ)
set_option maxHeartbeats 2000000 in
theorem w_X8_valueNow_85 (X : CX p s m args c meth cX8_valueNow 4 (some .int) RX8 D dA ad A) {Q : Int32 → S → Prop} {k4 : Int32 → Int32 → S → Prop} (hk4 : ∀ (x1 : Int32) (x2 : Int32) (σ : S) (H : Heap) (locs : List Loc) (ls : Array Slot), k4 x1 x2 σ → PW D dA A s.heap ad (TH σ) H locs → LH ad ls 4 [(0, pX 200), (1, iX x1), (2, iX x2)] → WTi p l e ({ frames := 1, cells := 0, slots := 0, locals := 22 } : Room) s m args below meth c D dA ad A Q H locs (F0 m 4 ls [])) : ∀ (y1 : Int32) (y2 : Int32) (x1 : Int32) (x2 : Int32) (σ : S) (H : Heap) (locs : List Loc) (ls : Array Slot), P_X8_valueNow_85 Q k4 y1 y2 x1 x2 σ → PW D dA A s.heap ad (TH σ) H locs → LH ad ls 4 [(0, pX 200), (1, iX x1), (2, iX x2)] → WTi p l e ({ frames := 1, cells := 0, slots := 0, locals := 22 } : Room) s m args below meth c D dA ad A Q H locs (F0 m 85 ls [.int y2, .int y1, rv ad 217]) := by
  intro y1 y2 x1 x2 σ H locs ls hF hP hl
  unfold P_X8_valueNow_85 at hF
  obtain ⟨hr2, hF⟩ := hF
  refine tw_ast 17 (n := 64) X hP hr2 (k := y1.toNatClampNeg) rfl dX8_valueNow_85 hF (fun H locs σ1 hP hF => ?_)
  refine lv_goto (tgt := 118) X.1 X.2.1 dX8_valueNow_86 (by decide) ?_
  refine ph_iinc (v := x2 + 1) (k := 2) X hl dX8_valueNow_118 rfl rfl (by decide) rfl (fun ls hl => ?_)
  refine lv_goto (tgt := 4) X.1 X.2.1 dX8_valueNow_121 (by decide) ?_
  exact hk4 _ _ _ _ _ _ hF hP (lh_sub hl [1, 2, 0] rfl)
set_option maxHeartbeats 2000000 in
theorem w_X8_valueNow_49 (X : CX p s m args c meth cX8_valueNow 4 (some .int) RX8 D dA ad A) {Q : Int32 → S → Prop} {k4 : Int32 → Int32 → S → Prop} (hk4 : ∀ (x1 : Int32) (x2 : Int32) (σ : S) (H : Heap) (locs : List Loc) (ls : Array Slot), k4 x1 x2 σ → PW D dA A s.heap ad (TH σ) H locs → LH ad ls 4 [(0, pX 200), (1, iX x1), (2, iX x2)] → WTi p l e ({ frames := 1, cells := 0, slots := 0, locals := 22 } : Room) s m args below meth c D dA ad A Q H locs (F0 m 4 ls [])) : ∀ (y1 : Int32) (y2 : Int32) (x1 : Int32) (x2 : Int32) (σ : S) (H : Heap) (locs : List Loc) (ls : Array Slot), P_X8_valueNow_49 Q k4 y1 y2 x1 x2 σ → PW D dA A s.heap ad (TH σ) H locs → LH ad ls 4 [(0, pX 200), (1, iX x1), (2, iX x2)] → WTi p l e ({ frames := 1, cells := 0, slots := 0, locals := 22 } : Room) s m args below meth c D dA ad A Q H locs (F0 m 49 ls [.int y2, .int y1, rv ad 217]) := by
  intro y1 y2 x1 x2 σ H locs ls hF hP hl
  unfold P_X8_valueNow_49 at hF
  obtain ⟨hr4, hF⟩ := hF
  refine tw_ast 17 (n := 64) X hP hr4 (k := y1.toNatClampNeg) rfl dX8_valueNow_49 hF (fun H locs σ3 hP hF => ?_)
  refine ph_iinc (v := x1 + 1) (k := 1) X hl dX8_valueNow_50 rfl rfl (by decide) rfl (fun ls hl => ?_)
  refine lv_goto (tgt := 118) X.1 X.2.1 dX8_valueNow_53 (by decide) ?_
  refine ph_iinc (v := x2 + 1) (k := 2) X hl dX8_valueNow_118 rfl rfl (by decide) rfl (fun ls hl => ?_)
  refine lv_goto (tgt := 4) X.1 X.2.1 dX8_valueNow_121 (by decide) ?_
  exact hk4 _ _ _ _ _ _ hF hP (lh_sub hl [2, 1, 0] rfl)
set_option maxHeartbeats 2000000 in
theorem w_X8_valueNow_4 (X : CX p s m args c meth cX8_valueNow 4 (some .int) RX8 D dA ad A) {Q : Int32 → S → Prop} : ∀ (n : Nat) (x1 : Int32) (x2 : Int32) (σ : S) (H : Heap) (locs : List Loc) (ls : Array Slot), P_X8_valueNow_4 Q n x1 x2 σ → PW D dA A s.heap ad (TH σ) H locs → LH ad ls 4 [(0, pX 200), (1, iX x1), (2, iX x2)] → WTi p l e ({ frames := 1, cells := 0, slots := 0, locals := 22 } : Room) s m args below meth c D dA ad A Q H locs (F0 m 4 ls []) := by
  intro n
  induction n with
  | zero =>
    intro x1 x2 σ H locs ls hF
    exact hF.elim
  | succ n ih =>
    intro x1 x2 σ H locs ls hF hP hl
    rw [P_X8_valueNow_4] at hF
    refine ph_iload_n (n := 2) X hl dX8_valueNow_4 rfl rfl ?_
    refine ph_aload_n (n := 0) X hl dX8_valueNow_5 rfl rfl ?_
    refine tw_getr 3 203 X hP q1773 dX8_valueNow_6 ?_
    refine lv_bipush (v := 7) X.1 X.2.1 dX8_valueNow_9 (by decide) ?_
    refine tw_ald 3 (n := 16) X hP (vin (by decide)) (k := 7) (by decide) dX8_valueNow_11 ?_
    refine lv_icmp_ge (tgt := 124) X.1 X.2.1 dX8_valueNow_12 (by decide) (fun c18 => ?_) (fun c18 => ?_)
    · have hF := hF.1 c18
      refine ph_aload_n (n := 0) X hl dX8_valueNow_124 rfl rfl ?_
      refine tw_getr 33 217 X hP q1803 dX8_valueNow_125 ?_
      refine lv_iconst (v := 0) X.1 X.2.1 dX8_valueNow_128 (by decide) ?_
      refine tw_ald 17 (n := 64) X hP (vin (by decide)) (k := 0) (by decide) dX8_valueNow_129 ?_
      exact tw_iret X hP hF dX8_valueNow_130
    · have hF := hF.2 c18
      refine ph_aload_n (n := 0) X hl dX8_valueNow_15 rfl rfl ?_
      refine tw_getr 11 211 X hP q1781 dX8_valueNow_16 ?_
      refine ph_iload_n (n := 2) X hl dX8_valueNow_19 rfl rfl ?_
      obtain ⟨hr5, hF⟩ := hF
      refine tw_ald 11 (n := 1200) X hP hr5 (k := x2.toNatClampNeg) rfl dX8_valueNow_20 ?_
      refine ph_istore_n X hl dX8_valueNow_21 rfl (by decide) rfl (fun ls hl => ?_)
      refine ph_iload_n (n := 0) X hl dX8_valueNow_22 rfl rfl ?_
      refine lv_bipush (v := (-20)) X.1 X.2.1 dX8_valueNow_23 (by decide) ?_
      refine lv_icmp_le (tgt := 56) X.1 X.2.1 dX8_valueNow_25 (by decide) (fun c17 => ?_) (fun c17 => ?_)
      · have hF := hF.1 c17
        refine ph_iload_n (n := 0) X hl dX8_valueNow_56 rfl rfl ?_
        refine lv_bipush (v := (-28)) X.1 X.2.1 dX8_valueNow_57 (by decide) ?_
        refine lv_icmp_ne (tgt := 89) X.1 X.2.1 dX8_valueNow_59 (by decide) (fun c14 => ?_) (fun c14 => ?_)
        · have hF := hF.1 c14
          refine ph_iinc (v := x1 + (-1)) (k := 2) X hl dX8_valueNow_89 rfl rfl (by decide) rfl (fun ls hl => ?_)
          refine ph_aload_n (n := 2) X hl dX8_valueNow_92 rfl rfl ?_
          refine tw_getr 33 217 X hP q1803 dX8_valueNow_93 ?_
          refine ph_iload_n (n := 0) X hl dX8_valueNow_96 rfl rfl ?_
          refine lv_iconst (v := 1) X.1 X.2.1 dX8_valueNow_97 (by decide) ?_
          refine lv_isub X.1 X.2.1 dX8_valueNow_98 ?_
          refine ph_iload_n (n := 1) X hl dX8_valueNow_99 rfl rfl ?_
          refine ph_aload_n (n := 2) X hl dX8_valueNow_100 rfl rfl ?_
          refine tw_getr 33 217 X hP q1803 dX8_valueNow_101 ?_
          refine ph_iload_n (n := 0) X hl dX8_valueNow_104 rfl rfl ?_
          refine lv_iconst (v := 1) X.1 X.2.1 dX8_valueNow_105 (by decide) ?_
          refine lv_isub X.1 X.2.1 dX8_valueNow_106 ?_
          obtain ⟨hr6, hF⟩ := hF
          refine tw_ald 17 (n := 64) X hP hr6 (k := ((x1 + (-1)) - 1).toNatClampNeg) rfl dX8_valueNow_107 ?_
          refine ph_aload_n (n := 2) X hl dX8_valueNow_108 rfl rfl ?_
          refine tw_getr 33 217 X hP q1803 dX8_valueNow_109 ?_
          refine ph_iload_n (n := 0) X hl dX8_valueNow_112 rfl rfl ?_
          obtain ⟨hr7, hF⟩ := hF
          refine tw_ald 17 (n := 64) X hP hr7 (k := (x1 + (-1)).toNatClampNeg) rfl dX8_valueNow_113 ?_
          refine tw_callSi [iX (σ 11 x2.toNatClampNeg), iX (σ 17 (((x1 + (-1)) - 1).toNatClampNeg)), iX (σ 17 ((x1 + (-1)).toNatClampNeg))] X hP (met_X8_reckon l D dA ad _ _ hF) (va_cwS 3 X.2.2.2.2.1 (lw_S q2240 q2241 q126 q2242) rfl rfl rfl (by decide +kernel) ⟨Nat.le_of_ble_eq_true rfl, Nat.le_of_ble_eq_true rfl⟩) rfl hl (k8 := 2) (csi (csr (cs0 (k := 0)))) (by decide) ⟨Nat.le_refl _, Nat.le_refl _⟩ dX8_valueNow_114 rfl (fun r9 σ8 H locs hF hP => ?_)
          obtain ⟨hr11, hF⟩ := hF
          refine tw_ast 17 (n := 64) X hP hr11 (k := ((x1 + (-1)) - 1).toNatClampNeg) rfl dX8_valueNow_117 hF (fun H locs σ10 hP hF => ?_)
          refine ph_iinc (v := x2 + 1) (k := 3) X hl dX8_valueNow_118 rfl rfl (by decide) rfl (fun ls hl => ?_)
          refine lv_goto (tgt := 4) X.1 X.2.1 dX8_valueNow_121 (by decide) ?_
          exact ih _ _ _ _ _ _ hF hP (lh_sub hl [3, 1, 0] rfl)
        · have hF := hF.2 c14
          refine ph_aload_n (n := 1) X hl dX8_valueNow_62 rfl rfl ?_
          refine tw_getr 33 217 X hP q1803 dX8_valueNow_63 ?_
          refine ph_iload_n (n := 2) X hl dX8_valueNow_66 rfl rfl ?_
          refine lv_iconst (v := 1) X.1 X.2.1 dX8_valueNow_67 (by decide) ?_
          refine lv_isub X.1 X.2.1 dX8_valueNow_68 ?_
          refine ph_aload_n (n := 1) X hl dX8_valueNow_69 rfl rfl ?_
          refine tw_getr 33 217 X hP q1803 dX8_valueNow_70 ?_
          refine ph_iload_n (n := 2) X hl dX8_valueNow_73 rfl rfl ?_
          refine lv_iconst (v := 1) X.1 X.2.1 dX8_valueNow_74 (by decide) ?_
          refine lv_isub X.1 X.2.1 dX8_valueNow_75 ?_
          obtain ⟨hr12, hF⟩ := hF
          refine tw_ald 17 (n := 64) X hP hr12 (k := (x1 - 1).toNatClampNeg) rfl dX8_valueNow_76 ?_
          refine lv_if_eq (tgt := 84) X.1 X.2.1 dX8_valueNow_77 (by decide) (fun c13 => ?_) (fun c13 => ?_)
          · have hF := hF.1 c13
            refine lv_iconst (v := 1) X.1 X.2.1 dX8_valueNow_84 (by decide) ?_
            exact w_X8_valueNow_85 X ih _ _ _ _ _ _ _ _ hF hP (lh_sub hl [1, 2, 3] rfl)
          · have hF := hF.2 c13
            refine lv_iconst (v := 0) X.1 X.2.1 dX8_valueNow_80 (by decide) ?_
            refine lv_goto (tgt := 85) X.1 X.2.1 dX8_valueNow_81 (by decide) ?_
            exact w_X8_valueNow_85 X ih _ _ _ _ _ _ _ _ hF hP (lh_sub hl [1, 2, 3] rfl)
      · have hF := hF.2 c17
        refine ph_aload_n (n := 1) X hl dX8_valueNow_28 rfl rfl ?_
        refine tw_getr 33 217 X hP q1803 dX8_valueNow_29 ?_
        refine ph_iload_n (n := 2) X hl dX8_valueNow_32 rfl rfl ?_
        refine ph_iload_n (n := 0) X hl dX8_valueNow_33 rfl rfl ?_
        refine lv_if_lt (tgt := 41) X.1 X.2.1 dX8_valueNow_34 (by decide) (fun c16 => ?_) (fun c16 => ?_)
        · have hF := hF.1 c16
          refine ph_aload_n (n := 1) X hl dX8_valueNow_41 rfl rfl ?_
          refine tw_getr 32 216 X hP q1802 dX8_valueNow_42 ?_
          refine lv_iconst (v := (-1)) X.1 X.2.1 dX8_valueNow_45 (by decide) ?_
          refine ph_iload_n (n := 0) X hl dX8_valueNow_46 rfl rfl ?_
          refine lv_isub X.1 X.2.1 dX8_valueNow_47 ?_
          obtain ⟨hr15, hF⟩ := hF
          refine tw_ald 16 (n := 7) X hP hr15 (k := ((-1) - (σ 11 x2.toNatClampNeg)).toNatClampNeg) rfl dX8_valueNow_48 ?_
          exact w_X8_valueNow_49 X ih _ _ _ _ _ _ _ _ hF hP (lh_sub hl [1, 2, 3] rfl)
        · have hF := hF.2 c16
          refine ph_iload_n (n := 0) X hl dX8_valueNow_37 rfl rfl ?_
          refine lv_goto (tgt := 49) X.1 X.2.1 dX8_valueNow_38 (by decide) ?_
          exact w_X8_valueNow_49 X ih _ _ _ _ _ _ _ _ hF hP (lh_sub hl [1, 2, 3] rfl)
set_option maxHeartbeats 2000000 in
theorem met_X8_valueNow (l : Launch) (D : va_G) (dA : Nat → ClassId) (ad : Nat → Nat) (σ : S) (sz : Nat) {Q : Int32 → S → Prop} (hF : P_X8_valueNow  σ Q) : CTi l yX8_valueNow cX8_valueNow 4 .int ({ frames := 1, cells := 0, slots := 0, locals := 22 } : Room) D dA ad σ sz [pX 200] Q := by
  unfold P_X8_valueNow at hF
  refine ph_enter [pX 200] (Qc := fun A => va_Qi (TQi Q) (CB D dA ad A) A) (by decide +kernel) (Nat.le_of_ble_eq_true rfl) ?_
  intro p e s m args below meth c A ls X hP hl hnm
  have hl : LH ad ls 4 [(0, pX 200)] := hl
  refine lv_iconst (v := 0) X.1 X.2.1 dX8_valueNow_0 (by decide) ?_
  refine ph_istore_n X hl dX8_valueNow_1 rfl (by decide) rfl (fun ls hl => ?_)
  refine lv_iconst (v := 0) X.1 X.2.1 dX8_valueNow_2 (by decide) ?_
  refine ph_istore_n X hl dX8_valueNow_3 rfl (by decide) rfl (fun ls hl => ?_)
  obtain ⟨n9, hF⟩ := hF
  exact w_X8_valueNow_4 X n9 _ _ _ _ _ _ hF hP (lh_sub hl [2, 1, 0] rfl)
def P_X8_wakes (a1 : Int32) (a2 : Int32) (σ : S) (Q : Int32 → S → Prop) : Prop := (vp_in a1 7 ∧ ((¬ (σ 3 7) = 0 → (vp_in (σ 18 a1.toNatClampNeg) 14 ∧ (∀ σ3, σ3 = up2 σ 16 0 (σ 6 ((σ 18 a1.toNatClampNeg).toNatClampNeg)) → (∀ σ4, σ4 = up2 σ3 16 1 (if 0 ≤ (a1 - a2) then a1 - a2 else 0 - (a1 - a2)) → (∀ σ5, σ5 = up2 σ4 16 2 (σ4 0 49) → (∀ σ6, σ6 = up2 σ5 16 3 ((σ5 0 50) / 60) → (P_X8_snorersBeside a1 σ6 (fun r8 σ7 => (∀ σ9, σ9 = up2 σ7 16 4 r8 → (∀ σ10, σ10 = up2 σ9 16 5 (((σ9 0 45) - 1) - a1) → (vp_in (σ 18 a1.toNatClampNeg) 7 ∧ (∀ σ12, σ12 = up2 σ10 16 6 (σ10 23 ((σ 18 a1.toNatClampNeg).toNatClampNeg)) → (P_X8_valueNow σ12 (fun r14 σ13 => ((r14 = 0 → (Q 0 σ13)) ∧ (¬ r14 = 0 → (Q 1 σ13))))))))))))))))) ∧ ((σ 3 7) = 0 → (vp_in (σ 18 a1.toNatClampNeg) 14 ∧ (((σ 6 ((σ 18 a1.toNatClampNeg).toNatClampNeg)) < (if 0 ≤ (a1 - a2) then a1 - a2 else 0 - (a1 - a2)) → (Q 0 σ)) ∧ (¬ (σ 6 ((σ 18 a1.toNatClampNeg).toNatClampNeg)) < (if 0 ≤ (a1 - a2) then a1 - a2 else 0 - (a1 - a2)) → (Q 1 σ)))))))
set_option maxHeartbeats 2000000 in
theorem met_X8_wakes (l : Launch) (D : va_G) (dA : Nat → ClassId) (ad : Nat → Nat) (σ : S) (sz : Nat) {a1 : Int32} {a2 : Int32} {Q : Int32 → S → Prop} (hF : P_X8_wakes a1 a2 σ Q) : CTi l yX8_wakes cX8_wakes 5 .boolean ({ frames := 2, cells := 0, slots := 0, locals := 45 } : Room) D dA ad σ sz [pX 200, iX a1, iX a2] Q := by
  unfold P_X8_wakes at hF
  refine ph_enter [pX 200, iX a1, iX a2] (Qc := fun A => va_Qi (TQi Q) (CB D dA ad A) A) (by decide +kernel) (Nat.le_of_ble_eq_true rfl) ?_
  intro p e s m args below meth c A ls X hP hl hnm
  have hl : LH ad ls 5 [(0, pX 200), (1, iX a1), (2, iX a2)] := hl
  refine ph_aload_n (n := 0) X hl dX8_wakes_0 rfl rfl ?_
  refine tw_getr 34 218 X hP q1804 dX8_wakes_1 ?_
  refine ph_iload_n (n := 1) X hl dX8_wakes_4 rfl rfl ?_
  obtain ⟨hr1, hF⟩ := hF
  refine tw_ald 18 (n := 7) X hP hr1 (k := a1.toNatClampNeg) rfl dX8_wakes_5 ?_
  refine ph_istore_n X hl dX8_wakes_6 rfl (by decide) rfl (fun ls hl => ?_)
  refine ph_iload_n (n := 2) X hl dX8_wakes_7 rfl rfl ?_
  refine ph_iload_n (n := 3) X hl dX8_wakes_8 rfl rfl ?_
  refine lv_isub X.1 X.2.1 dX8_wakes_9 ?_
  refine va_mabs X.1 X.2.1 (X.2.2.1.trans hl.1.symm) X.2.2.2.1 (X.2.2.2.2.1 _ q2231) (X.2.2.2.2.1 _ q1022) (X.2.2.2.2.1 _ q112) (X.2.2.2.2.1 _ q1023) (Nat.le_of_ble_eq_true rfl) (Nat.le_trans (Nat.add_le_add_right (cs0 (k := 0)) 13) (Nat.le_of_ble_eq_true rfl)) (Nat.le_refl _) (Nat.le_refl _) dX8_wakes_10 ?_
  refine ph_istore X hl dX8_wakes_13 (by decide) rfl (fun ls hl => ?_)
  refine ph_aload_n (n := 2) X hl dX8_wakes_15 rfl rfl ?_
  refine tw_getr 3 203 X hP q1773 dX8_wakes_16 ?_
  refine lv_bipush (v := 7) X.1 X.2.1 dX8_wakes_19 (by decide) ?_
  refine tw_ald 3 (n := 16) X hP (vin (by decide)) (k := 7) (by decide) dX8_wakes_21 ?_
  refine lv_if_ne (tgt := 42) X.1 X.2.1 dX8_wakes_22 (by decide) (fun c18 => ?_) (fun c18 => ?_)
  · have hF := hF.1 c18
    refine ph_aload_n (n := 2) X hl dX8_wakes_42 rfl rfl ?_
    refine tw_getr 32 216 X hP q1802 dX8_wakes_43 ?_
    refine lv_iconst (v := 0) X.1 X.2.1 dX8_wakes_46 (by decide) ?_
    refine ph_aload_n (n := 2) X hl dX8_wakes_47 rfl rfl ?_
    refine tw_getr 6 206 X hP q1776 dX8_wakes_48 ?_
    refine ph_iload_n (n := 1) X hl dX8_wakes_51 rfl rfl ?_
    obtain ⟨hr2, hF⟩ := hF
    refine tw_ald 6 (n := 14) X hP hr2 (k := (σ 18 a1.toNatClampNeg).toNatClampNeg) rfl dX8_wakes_52 ?_
    refine tw_ast 16 (n := 7) X hP (vin (by decide)) (k := 0) (by decide) dX8_wakes_53 hF (fun H locs σ3 hP hF => ?_)
    refine ph_aload_n (n := 2) X hl dX8_wakes_54 rfl rfl ?_
    refine tw_getr 32 216 X hP q1802 dX8_wakes_55 ?_
    refine lv_iconst (v := 1) X.1 X.2.1 dX8_wakes_58 (by decide) ?_
    refine ph_iload (n := 0) X hl dX8_wakes_59 rfl ?_
    refine tw_ast 16 (n := 7) X hP (vin (by decide)) (k := 1) (by decide) dX8_wakes_61 hF (fun H locs σ4 hP hF => ?_)
    refine ph_aload_n (n := 2) X hl dX8_wakes_62 rfl rfl ?_
    refine tw_getr 32 216 X hP q1802 dX8_wakes_63 ?_
    refine lv_iconst (v := 2) X.1 X.2.1 dX8_wakes_66 (by decide) ?_
    refine ph_aload_n (n := 2) X hl dX8_wakes_67 rfl rfl ?_
    refine tw_geti 49 X hP q1819 dX8_wakes_68 ?_
    refine tw_ast 16 (n := 7) X hP (vin (by decide)) (k := 2) (by decide) dX8_wakes_71 hF (fun H locs σ5 hP hF => ?_)
    refine ph_aload_n (n := 2) X hl dX8_wakes_72 rfl rfl ?_
    refine tw_getr 32 216 X hP q1802 dX8_wakes_73 ?_
    refine lv_iconst (v := 3) X.1 X.2.1 dX8_wakes_76 (by decide) ?_
    refine ph_aload_n (n := 2) X hl dX8_wakes_77 rfl rfl ?_
    refine tw_geti 50 X hP q1820 dX8_wakes_78 ?_
    refine lv_bipush (v := 60) X.1 X.2.1 dX8_wakes_81 (by decide) ?_
    refine lv_idiv X.1 X.2.1 dX8_wakes_83 (by decide) ?_
    refine tw_ast 16 (n := 7) X hP (vin (by decide)) (k := 3) (by decide) dX8_wakes_84 hF (fun H locs σ6 hP hF => ?_)
    refine ph_aload_n (n := 2) X hl dX8_wakes_85 rfl rfl ?_
    refine tw_getr 32 216 X hP q1802 dX8_wakes_86 ?_
    refine lv_iconst (v := 4) X.1 X.2.1 dX8_wakes_89 (by decide) ?_
    refine ph_aload_n (n := 2) X hl dX8_wakes_90 rfl rfl ?_
    refine ph_iload_n (n := 3) X hl dX8_wakes_91 rfl rfl ?_
    refine tw_callVi [iX a1] X hP (met_X8_snorersBeside l D dA ad _ _ hF) (cwV 1 X.2.2.2.2.1 (lw_V q2232 q2234 qs83 q126 q2235) rfl rfl rfl (by decide +kernel) ⟨Nat.le_of_ble_eq_true rfl, Nat.le_of_ble_eq_true rfl⟩) rfl hl (k8 := 2) (csi (csr (cs0 (k := 0)))) (by decide) ⟨Nat.le_refl _, Nat.le_refl _⟩ dX8_wakes_92 rfl (fun r8 σ7 H locs hF hP => ?_)
    refine tw_ast 16 (n := 7) X hP (vin (by decide)) (k := 4) (by decide) dX8_wakes_95 hF (fun H locs σ9 hP hF => ?_)
    refine ph_aload_n (n := 2) X hl dX8_wakes_96 rfl rfl ?_
    refine tw_getr 32 216 X hP q1802 dX8_wakes_97 ?_
    refine lv_iconst (v := 5) X.1 X.2.1 dX8_wakes_100 (by decide) ?_
    refine ph_aload_n (n := 2) X hl dX8_wakes_101 rfl rfl ?_
    refine tw_geti 45 X hP q1815 dX8_wakes_102 ?_
    refine lv_iconst (v := 1) X.1 X.2.1 dX8_wakes_105 (by decide) ?_
    refine lv_isub X.1 X.2.1 dX8_wakes_106 ?_
    refine ph_iload_n (n := 3) X hl dX8_wakes_107 rfl rfl ?_
    refine lv_isub X.1 X.2.1 dX8_wakes_108 ?_
    refine tw_ast 16 (n := 7) X hP (vin (by decide)) (k := 5) (by decide) dX8_wakes_109 hF (fun H locs σ10 hP hF => ?_)
    refine ph_aload_n (n := 2) X hl dX8_wakes_110 rfl rfl ?_
    refine tw_getr 32 216 X hP q1802 dX8_wakes_111 ?_
    refine lv_bipush (v := 6) X.1 X.2.1 dX8_wakes_114 (by decide) ?_
    refine ph_aload_n (n := 2) X hl dX8_wakes_116 rfl rfl ?_
    refine tw_getr 39 223 X hP q1809 dX8_wakes_117 ?_
    refine ph_iload_n (n := 1) X hl dX8_wakes_120 rfl rfl ?_
    obtain ⟨hr11, hF⟩ := hF
    refine tw_ald 23 (n := 7) X hP hr11 (k := (σ 18 a1.toNatClampNeg).toNatClampNeg) rfl dX8_wakes_121 ?_
    refine tw_ast 16 (n := 7) X hP (vin (by decide)) (k := 6) (by decide) dX8_wakes_122 hF (fun H locs σ12 hP hF => ?_)
    refine ph_aload_n (n := 2) X hl dX8_wakes_123 rfl rfl ?_
    refine tw_callVi [] X hP (met_X8_valueNow l D dA ad _ _ hF) (cwV 0 X.2.2.2.2.1 (lw_V q2236 q2238 qs84 q126 q2239) rfl rfl rfl (by decide +kernel) ⟨Nat.le_of_ble_eq_true rfl, Nat.le_of_ble_eq_true rfl⟩) rfl hl (k8 := 0) (cs0 (k := 0)) (by decide) ⟨Nat.le_refl _, Nat.le_refl _⟩ dX8_wakes_124 rfl (fun r14 σ13 H locs hF hP => ?_)
    refine lv_if_eq (tgt := 134) X.1 X.2.1 dX8_wakes_127 (by decide) (fun c15 => ?_) (fun c15 => ?_)
    · have hF := hF.1 c15
      refine lv_iconst (v := 0) X.1 X.2.1 dX8_wakes_134 (by decide) ?_
      exact tw_zret X hP isB_0 hF dX8_wakes_135
    · have hF := hF.2 c15
      refine lv_iconst (v := 1) X.1 X.2.1 dX8_wakes_130 (by decide) ?_
      refine lv_goto (tgt := 135) X.1 X.2.1 dX8_wakes_131 (by decide) ?_
      exact tw_zret X hP isB_1 hF dX8_wakes_135
  · have hF := hF.2 c18
    refine ph_iload (n := 0) X hl dX8_wakes_25 rfl ?_
    refine ph_aload_n (n := 2) X hl dX8_wakes_27 rfl rfl ?_
    refine tw_getr 6 206 X hP q1776 dX8_wakes_28 ?_
    refine ph_iload_n (n := 1) X hl dX8_wakes_31 rfl rfl ?_
    obtain ⟨hr16, hF⟩ := hF
    refine tw_ald 6 (n := 14) X hP hr16 (k := (σ 18 a1.toNatClampNeg).toNatClampNeg) rfl dX8_wakes_32 ?_
    refine lv_icmp_gt (tgt := 40) X.1 X.2.1 dX8_wakes_33 (by decide) (fun c17 => ?_) (fun c17 => ?_)
    · have hF := hF.1 c17
      refine lv_iconst (v := 0) X.1 X.2.1 dX8_wakes_40 (by decide) ?_
      exact tw_zret X hP isB_0 hF dX8_wakes_41
    · have hF := hF.2 c17
      refine lv_iconst (v := 1) X.1 X.2.1 dX8_wakes_36 (by decide) ?_
      refine lv_goto (tgt := 41) X.1 X.2.1 dX8_wakes_37 (by decide) ?_
      exact tw_zret X hP isB_1 hF dX8_wakes_41
def P_X8_wake (a1 : Int32) (σ : S) (Q : S → Prop) : Prop := (vp_in a1 7 ∧ (∀ σ1, σ1 = up2 σ 22 a1.toNatClampNeg (σ 0 50) → (vp_in a1 7 ∧ (vp_in a1 7 ∧ (∀ σ4, σ4 = up2 σ1 23 a1.toNatClampNeg ((σ1 23 a1.toNatClampNeg) + 1) → (Q σ4))))))
set_option maxHeartbeats 2000000 in
theorem met_X8_wake (l : Launch) (D : va_G) (dA : Nat → ClassId) (ad : Nat → Nat) (σ : S) (sz : Nat) {a1 : Int32} {Q : S → Prop} (hF : P_X8_wake a1 σ Q) : CTv l yX8_wake cX8_wake 2 ({ frames := 0, cells := 0, slots := 0, locals := 0 } : Room) D dA ad σ sz [pX 200, iX a1] Q := by
  unfold P_X8_wake at hF
  refine ph_enter [pX 200, iX a1] (Qc := fun A => va_Qv (TQv Q) (CB D dA ad A) A) (by decide +kernel) (Nat.le_of_ble_eq_true rfl) ?_
  intro p e s m args below meth c A ls X hP hl hnm
  have hl : LH ad ls 2 [(0, pX 200), (1, iX a1)] := hl
  refine ph_aload_n (n := 0) X hl dX8_wake_0 rfl rfl ?_
  refine tw_getr 38 222 X hP q1808 dX8_wake_1 ?_
  refine ph_iload_n (n := 1) X hl dX8_wake_4 rfl rfl ?_
  refine ph_aload_n (n := 0) X hl dX8_wake_5 rfl rfl ?_
  refine tw_geti 50 X hP q1820 dX8_wake_6 ?_
  obtain ⟨hr2, hF⟩ := hF
  refine tw_ast 22 (n := 7) X hP hr2 (k := a1.toNatClampNeg) rfl dX8_wake_9 hF (fun H locs σ1 hP hF => ?_)
  refine ph_aload_n (n := 0) X hl dX8_wake_10 rfl rfl ?_
  refine tw_getr 39 223 X hP q1809 dX8_wake_11 ?_
  refine ph_iload_n (n := 1) X hl dX8_wake_14 rfl rfl ?_
  refine ph_dup2_ir X dX8_wake_15 ?_
  obtain ⟨hr3, hF⟩ := hF
  refine tw_ald 23 (n := 7) X hP hr3 (k := a1.toNatClampNeg) rfl dX8_wake_16 ?_
  refine lv_iconst (v := 1) X.1 X.2.1 dX8_wake_17 (by decide) ?_
  refine lv_iadd X.1 X.2.1 dX8_wake_18 ?_
  obtain ⟨hr5, hF⟩ := hF
  refine tw_ast 23 (n := 7) X hP hr5 (k := a1.toNatClampNeg) rfl dX8_wake_19 hF (fun H locs σ4 hP hF => ?_)
  exact tw_vret X hP hF dX8_wake_20
def P_X8_turnAll_206 (Q : S → Prop) (x3 : Int32) (σ : S) : Prop := (vp_in x3 7 ∧ (vp_in (σ 18 x3.toNatClampNeg) 7 ∧ (vp_in (σ 18 x3.toNatClampNeg) 7 ∧ (∀ σ3, σ3 = up2 σ 24 ((σ 18 x3.toNatClampNeg).toNatClampNeg) ((σ 24 ((σ 18 x3.toNatClampNeg).toNatClampNeg)) + 1) → (∀ σ5, σ5 = up2 σ3 0 49 ((σ3 0 49) + 1) → (∀ σ6, σ6 = up2 σ5 0 51 (if (σ5 0 51) < (((σ5 0 50) - (σ5 0 52)) - 1) then ((σ5 0 50) - (σ5 0 52)) - 1 else σ5 0 51) → (∀ σ7, σ7 = up2 σ6 0 52 (σ6 0 50) → (Q σ7))))))))
def P_X8_turnAll_205 (Q : S → Prop) (y1 : Int32) (y2 : Int32) (x3 : Int32) (σ : S) : Prop := (vp_in y1 1200 ∧ (∀ σ8, σ8 = up2 σ 28 y1.toNatClampNeg y2 → (P_X8_turnAll_206 Q x3 σ8)))
def P_X8_turnAll_71 (Q : S → Prop) : Nat → Int32 → Int32 → Int32 → Int32 → Int32 → S → Prop
  | 0, _, _, _, _, _, _ => False
  | n + 1, x2, x3, x4, x5, x6, σ => ((x2 ≤ x6 → ((1200 ≤ (σ 0 49) → (P_X8_turnAll_206 Q x3 σ)) ∧ (¬ 1200 ≤ (σ 0 49) → (vp_in (σ 0 49) 1200 ∧ (∀ σ10, σ10 = up2 σ 25 ((σ 0 49).toNatClampNeg) (σ 0 50) → (vp_in x3 7 ∧ (vp_in (σ10 0 49) 1200 ∧ (∀ σ13, σ13 = up2 σ10 26 ((σ10 0 49).toNatClampNeg) (σ10 18 x3.toNatClampNeg) → (vp_in (σ13 0 49) 1200 ∧ (∀ σ15, σ15 = up2 σ13 27 ((σ13 0 49).toNatClampNeg) x5 → ((x4 = 0 → (P_X8_turnAll_205 Q (σ15 0 49) 0 x3 σ15)) ∧ (¬ x4 = 0 → (P_X8_turnAll_205 Q (σ15 0 49) 1 x3 σ15))))))))))))) ∧ (¬ x2 ≤ x6 → (vp_in x6 7 ∧ ((x6 = x3 → (P_X8_turnAll_71 Q  n x2 x3 x4 x5 (x6 + 1) σ)) ∧ (¬ x6 = x3 → (P_X8_isDeaf (σ 18 x6.toNatClampNeg) σ (fun r21 σ20 => ((¬ r21 = 0 → (P_X8_turnAll_71 Q  n x2 x3 x4 x5 (x6 + 1) σ20)) ∧ (r21 = 0 → (P_X8_isAwake (σ 18 x6.toNatClampNeg) σ20 (fun r23 σ22 => ((¬ r23 = 0 → (P_X8_turnAll_71 Q  n x2 x3 x4 x5 (x6 + 1) σ22)) ∧ (r23 = 0 → (P_X8_wakes x6 x3 σ22 (fun r25 σ24 => ((¬ r25 = 0 → (P_X8_wake (σ 18 x6.toNatClampNeg) σ24 (fun σ26 => (P_X8_turnAll_71 Q  n x2 x3 x4 (x5 + 1) (x6 + 1) σ26)))) ∧ (r25 = 0 → (P_X8_turnAll_71 Q  n x2 x3 x4 x5 (x6 + 1) σ24))))))))))))))))))
def P_X8_turnAll_3 (Q : S → Prop) : Nat → Int32 → Int32 → Int32 → Int32 → Int32 → S → Prop
  | 0, _, _, _, _, _, _ => False
  | n + 1, x1, x2, x3, x4, x5, σ => ((x2 ≤ x5 → (∃ n9, P_X8_turnAll_71 Q n9 x2 x3 x4 0 x1 σ)) ∧ (¬ x2 ≤ x5 → (vp_in x5 7 ∧ (vp_in (σ 18 x5.toNatClampNeg) 14 ∧ ((¬ (σ 4 ((σ 18 x5.toNatClampNeg).toNatClampNeg)) = 3 → (vp_in (σ 18 x5.toNatClampNeg) 7 ∧ (vp_in (σ 18 x5.toNatClampNeg) 7 ∧ (∀ σ36, σ36 = up2 σ 20 ((σ 18 x5.toNatClampNeg).toNatClampNeg) (1 - (σ 20 ((σ 18 x5.toNatClampNeg).toNatClampNeg))) → (vp_in (σ 18 x5.toNatClampNeg) 7 ∧ (∀ σ38, σ38 = up2 σ36 21 ((σ 18 x5.toNatClampNeg).toNatClampNeg) (σ36 0 50) → (P_X8_turnAll_3 Q  n x1 x2 x3 x4 (x5 + 1) σ38))))))) ∧ ((σ 4 ((σ 18 x5.toNatClampNeg).toNatClampNeg)) = 3 → (P_X8_turnAll_3 Q  n x1 x2 x3 x4 (x5 + 1) σ)))))))
def P_X8_turnAll (a1 : Int32) (a2 : Int32) (a3 : Int32) (a4 : Int32) (σ : S) (Q : S → Prop) : Prop := (∃ n9, P_X8_turnAll_3 Q n9 a1 a2 a3 a4 a1 σ)
set_option maxHeartbeats 2000000 in
theorem w_X8_turnAll_206 (X : CX p s m args c meth cX8_turnAll 8 none RX8 D dA ad A) {Q : S → Prop} : ∀ (x3 : Int32) (σ : S) (H : Heap) (locs : List Loc) (ls : Array Slot), P_X8_turnAll_206 Q x3 σ → PW D dA A s.heap ad (TH σ) H locs → LH ad ls 8 [(0, pX 200), (3, iX x3)] → WTv p l e ({ frames := 3, cells := 0, slots := 0, locals := 69 } : Room) s m args below meth c D dA ad A Q H locs (F0 m 206 ls []) := by
  intro x3 σ H locs ls hF hP hl
  unfold P_X8_turnAll_206 at hF
  refine ph_aload_n (n := 0) X hl dX8_turnAll_206 rfl rfl ?_
  refine tw_getr 40 224 X hP q1810 dX8_turnAll_207 ?_
  refine ph_aload_n (n := 0) X hl dX8_turnAll_210 rfl rfl ?_
  refine tw_getr 34 218 X hP q1804 dX8_turnAll_211 ?_
  refine ph_iload_n (n := 1) X hl dX8_turnAll_214 rfl rfl ?_
  obtain ⟨hr1, hF⟩ := hF
  refine tw_ald 18 (n := 7) X hP hr1 (k := x3.toNatClampNeg) rfl dX8_turnAll_215 ?_
  refine ph_dup2_ir X dX8_turnAll_216 ?_
  obtain ⟨hr2, hF⟩ := hF
  refine tw_ald 24 (n := 7) X hP hr2 (k := (σ 18 x3.toNatClampNeg).toNatClampNeg) rfl dX8_turnAll_217 ?_
  refine lv_iconst (v := 1) X.1 X.2.1 dX8_turnAll_218 (by decide) ?_
  refine lv_iadd X.1 X.2.1 dX8_turnAll_219 ?_
  obtain ⟨hr4, hF⟩ := hF
  refine tw_ast 24 (n := 7) X hP hr4 (k := (σ 18 x3.toNatClampNeg).toNatClampNeg) rfl dX8_turnAll_220 hF (fun H locs σ3 hP hF => ?_)
  refine ph_aload_n (n := 0) X hl dX8_turnAll_221 rfl rfl ?_
  refine ph_dup_r X dX8_turnAll_222 ?_
  refine tw_geti 49 X hP q1819 dX8_turnAll_223 ?_
  refine lv_iconst (v := 1) X.1 X.2.1 dX8_turnAll_226 (by decide) ?_
  refine lv_iadd X.1 X.2.1 dX8_turnAll_227 ?_
  refine tw_puti 49 X hP q1819 dX8_turnAll_228 hF (fun H locs σ5 hP hF => ?_)
  refine ph_aload_n (n := 0) X hl dX8_turnAll_231 rfl rfl ?_
  refine ph_aload_n (n := 0) X hl dX8_turnAll_232 rfl rfl ?_
  refine tw_geti 51 X hP q1821 dX8_turnAll_233 ?_
  refine ph_aload_n (n := 0) X hl dX8_turnAll_236 rfl rfl ?_
  refine tw_geti 50 X hP q1820 dX8_turnAll_237 ?_
  refine ph_aload_n (n := 0) X hl dX8_turnAll_240 rfl rfl ?_
  refine tw_geti 52 X hP q1822 dX8_turnAll_241 ?_
  refine lv_isub X.1 X.2.1 dX8_turnAll_244 ?_
  refine lv_iconst (v := 1) X.1 X.2.1 dX8_turnAll_245 (by decide) ?_
  refine lv_isub X.1 X.2.1 dX8_turnAll_246 ?_
  refine va_mmax X.1 X.2.1 (X.2.2.1.trans hl.1.symm) X.2.2.2.1 (X.2.2.2.2.1 _ q2247) (X.2.2.2.2.1 _ q267) (X.2.2.2.2.1 _ q112) (X.2.2.2.2.1 _ q268) (Nat.le_of_ble_eq_true rfl) (Nat.le_trans (Nat.add_le_add_right (csr (cs0 (k := 0))) 13) (Nat.le_of_ble_eq_true rfl)) (Nat.le_refl _) (Nat.le_refl _) dX8_turnAll_247 ?_
  refine tw_puti 51 X hP q1821 dX8_turnAll_250 hF (fun H locs σ6 hP hF => ?_)
  refine ph_aload_n (n := 0) X hl dX8_turnAll_253 rfl rfl ?_
  refine ph_aload_n (n := 0) X hl dX8_turnAll_254 rfl rfl ?_
  refine tw_geti 50 X hP q1820 dX8_turnAll_255 ?_
  refine tw_puti 52 X hP q1822 dX8_turnAll_258 hF (fun H locs σ7 hP hF => ?_)
  exact tw_vret X hP hF dX8_turnAll_261
set_option maxHeartbeats 2000000 in
theorem w_X8_turnAll_205 (X : CX p s m args c meth cX8_turnAll 8 none RX8 D dA ad A) {Q : S → Prop} : ∀ (y1 : Int32) (y2 : Int32) (x3 : Int32) (σ : S) (H : Heap) (locs : List Loc) (ls : Array Slot), P_X8_turnAll_205 Q y1 y2 x3 σ → PW D dA A s.heap ad (TH σ) H locs → LH ad ls 8 [(0, pX 200), (3, iX x3)] → WTv p l e ({ frames := 3, cells := 0, slots := 0, locals := 69 } : Room) s m args below meth c D dA ad A Q H locs (F0 m 205 ls [.int y2, .int y1, rv ad 228]) := by
  intro y1 y2 x3 σ H locs ls hF hP hl
  unfold P_X8_turnAll_205 at hF
  obtain ⟨hr9, hF⟩ := hF
  refine tw_ast 28 (n := 1200) X hP hr9 (k := y1.toNatClampNeg) rfl dX8_turnAll_205 hF (fun H locs σ8 hP hF => ?_)
  exact w_X8_turnAll_206 X _ _ _ _ _ hF hP hl
set_option maxHeartbeats 2000000 in
theorem w_X8_turnAll_71 (X : CX p s m args c meth cX8_turnAll 8 none RX8 D dA ad A) {Q : S → Prop} : ∀ (n : Nat) (x2 : Int32) (x3 : Int32) (x4 : Int32) (x5 : Int32) (x6 : Int32) (σ : S) (H : Heap) (locs : List Loc) (ls : Array Slot), P_X8_turnAll_71 Q n x2 x3 x4 x5 x6 σ → PW D dA A s.heap ad (TH σ) H locs → LH ad ls 8 [(0, pX 200), (2, iX x2), (3, iX x3), (4, iX x4), (5, iX x5), (6, iX x6)] → WTv p l e ({ frames := 3, cells := 0, slots := 0, locals := 69 } : Room) s m args below meth c D dA ad A Q H locs (F0 m 71 ls []) := by
  intro n
  induction n with
  | zero =>
    intro x2 x3 x4 x5 x6 σ H locs ls hF
    exact hF.elim
  | succ n ih =>
    intro x2 x3 x4 x5 x6 σ H locs ls hF hP hl
    rw [P_X8_turnAll_71] at hF
    refine ph_iload (n := 5) X hl dX8_turnAll_71 rfl ?_
    refine ph_iload_n (n := 1) X hl dX8_turnAll_73 rfl rfl ?_
    refine lv_icmp_ge (tgt := 138) X.1 X.2.1 dX8_turnAll_74 (by decide) (fun c32 => ?_) (fun c32 => ?_)
    · have hF := hF.1 c32
      refine ph_aload_n (n := 0) X hl dX8_turnAll_138 rfl rfl ?_
      refine tw_geti 49 X hP q1819 dX8_turnAll_139 ?_
      refine lv_sipush (v := 1200) X.1 X.2.1 dX8_turnAll_142 (by decide) ?_
      refine lv_icmp_ge (tgt := 206) X.1 X.2.1 dX8_turnAll_145 (by decide) (fun c18 => ?_) (fun c18 => ?_)
      · have hF := hF.1 c18
        exact w_X8_turnAll_206 X _ _ _ _ _ hF hP (lh_sub hl [0, 2] rfl)
      · have hF := hF.2 c18
        refine ph_aload_n (n := 0) X hl dX8_turnAll_148 rfl rfl ?_
        refine tw_getr 41 225 X hP q1811 dX8_turnAll_149 ?_
        refine ph_aload_n (n := 0) X hl dX8_turnAll_152 rfl rfl ?_
        refine tw_geti 49 X hP q1819 dX8_turnAll_153 ?_
        refine ph_aload_n (n := 0) X hl dX8_turnAll_156 rfl rfl ?_
        refine tw_geti 50 X hP q1820 dX8_turnAll_157 ?_
        obtain ⟨hr11, hF⟩ := hF
        refine tw_ast 25 (n := 1200) X hP hr11 (k := (σ 0 49).toNatClampNeg) rfl dX8_turnAll_160 hF (fun H locs σ10 hP hF => ?_)
        refine ph_aload_n (n := 0) X hl dX8_turnAll_161 rfl rfl ?_
        refine tw_getr 42 226 X hP q1812 dX8_turnAll_162 ?_
        refine ph_aload_n (n := 0) X hl dX8_turnAll_165 rfl rfl ?_
        refine tw_geti 49 X hP q1819 dX8_turnAll_166 ?_
        refine ph_aload_n (n := 0) X hl dX8_turnAll_169 rfl rfl ?_
        refine tw_getr 34 218 X hP q1804 dX8_turnAll_170 ?_
        refine ph_iload_n (n := 2) X hl dX8_turnAll_173 rfl rfl ?_
        obtain ⟨hr12, hF⟩ := hF
        refine tw_ald 18 (n := 7) X hP hr12 (k := x3.toNatClampNeg) rfl dX8_turnAll_174 ?_
        obtain ⟨hr14, hF⟩ := hF
        refine tw_ast 26 (n := 1200) X hP hr14 (k := (σ10 0 49).toNatClampNeg) rfl dX8_turnAll_175 hF (fun H locs σ13 hP hF => ?_)
        refine ph_aload_n (n := 0) X hl dX8_turnAll_176 rfl rfl ?_
        refine tw_getr 43 227 X hP q1813 dX8_turnAll_177 ?_
        refine ph_aload_n (n := 0) X hl dX8_turnAll_180 rfl rfl ?_
        refine tw_geti 49 X hP q1819 dX8_turnAll_181 ?_
        refine ph_iload (n := 4) X hl dX8_turnAll_184 rfl ?_
        obtain ⟨hr16, hF⟩ := hF
        refine tw_ast 27 (n := 1200) X hP hr16 (k := (σ13 0 49).toNatClampNeg) rfl dX8_turnAll_186 hF (fun H locs σ15 hP hF => ?_)
        refine ph_aload_n (n := 0) X hl dX8_turnAll_187 rfl rfl ?_
        refine tw_getr 44 228 X hP q1814 dX8_turnAll_188 ?_
        refine ph_aload_n (n := 0) X hl dX8_turnAll_191 rfl rfl ?_
        refine tw_geti 49 X hP q1819 dX8_turnAll_192 ?_
        refine ph_iload (n := 3) X hl dX8_turnAll_195 rfl ?_
        refine lv_if_eq (tgt := 204) X.1 X.2.1 dX8_turnAll_197 (by decide) (fun c17 => ?_) (fun c17 => ?_)
        · have hF := hF.1 c17
          refine lv_iconst (v := 0) X.1 X.2.1 dX8_turnAll_204 (by decide) ?_
          exact w_X8_turnAll_205 X _ _ _ _ _ _ _ hF hP (lh_sub hl [0, 2] rfl)
        · have hF := hF.2 c17
          refine lv_iconst (v := 1) X.1 X.2.1 dX8_turnAll_200 (by decide) ?_
          refine lv_goto (tgt := 205) X.1 X.2.1 dX8_turnAll_201 (by decide) ?_
          exact w_X8_turnAll_205 X _ _ _ _ _ _ _ hF hP (lh_sub hl [0, 2] rfl)
    · have hF := hF.2 c32
      refine ph_aload_n (n := 0) X hl dX8_turnAll_77 rfl rfl ?_
      refine tw_getr 34 218 X hP q1804 dX8_turnAll_78 ?_
      refine ph_iload (n := 5) X hl dX8_turnAll_81 rfl ?_
      obtain ⟨hr19, hF⟩ := hF
      refine tw_ald 18 (n := 7) X hP hr19 (k := x6.toNatClampNeg) rfl dX8_turnAll_83 ?_
      refine ph_istore X hl dX8_turnAll_84 (by decide) rfl (fun ls hl => ?_)
      refine ph_iload (n := 6) X hl dX8_turnAll_86 rfl ?_
      refine ph_iload_n (n := 3) X hl dX8_turnAll_88 rfl rfl ?_
      refine lv_icmp_eq (tgt := 132) X.1 X.2.1 dX8_turnAll_89 (by decide) (fun c31 => ?_) (fun c31 => ?_)
      · have hF := hF.1 c31
        refine ph_iinc (v := x6 + 1) (k := 6) X hl dX8_turnAll_132 rfl rfl (by decide) rfl (fun ls hl => ?_)
        refine lv_goto (tgt := 71) X.1 X.2.1 dX8_turnAll_135 (by decide) ?_
        exact ih _ _ _ _ _ _ _ _ _ hF hP (lh_sub hl [2, 3, 4, 5, 6, 0] rfl)
      · have hF := hF.2 c31
        refine ph_aload_n (n := 1) X hl dX8_turnAll_92 rfl rfl ?_
        refine ph_iload (n := 0) X hl dX8_turnAll_93 rfl ?_
        refine tw_callVi [iX (σ 18 x6.toNatClampNeg)] X hP (met_X8_isDeaf l D dA ad _ _ hF) (cwV 1 X.2.2.2.2.1 (lw_V q2219 q2221 qs80 q126 q2222) rfl rfl rfl (by decide +kernel) ⟨Nat.le_of_ble_eq_true rfl, Nat.le_of_ble_eq_true rfl⟩) rfl hl (k8 := 0) (cs0 (k := 0)) (by decide) ⟨Nat.le_refl _, Nat.le_refl _⟩ dX8_turnAll_95 rfl (fun r21 σ20 H locs hF hP => ?_)
        refine lv_if_ne (tgt := 132) X.1 X.2.1 dX8_turnAll_98 (by decide) (fun c30 => ?_) (fun c30 => ?_)
        · have hF := hF.1 c30
          refine ph_iinc (v := x6 + 1) (k := 6) X hl dX8_turnAll_132 rfl rfl (by decide) rfl (fun ls hl => ?_)
          refine lv_goto (tgt := 71) X.1 X.2.1 dX8_turnAll_135 (by decide) ?_
          exact ih _ _ _ _ _ _ _ _ _ hF hP (lh_sub hl [2, 3, 4, 5, 6, 0] rfl)
        · have hF := hF.2 c30
          refine ph_aload_n (n := 1) X hl dX8_turnAll_101 rfl rfl ?_
          refine ph_iload (n := 0) X hl dX8_turnAll_102 rfl ?_
          refine tw_callVi [iX (σ 18 x6.toNatClampNeg)] X hP (met_X8_isAwake l D dA ad _ _ hF) (cwV 1 X.2.2.2.2.1 (lw_V q2223 q2225 qs81 q126 q2226) rfl rfl rfl (by decide +kernel) ⟨Nat.le_of_ble_eq_true rfl, Nat.le_of_ble_eq_true rfl⟩) rfl hl (k8 := 0) (cs0 (k := 0)) (by decide) ⟨Nat.le_refl _, Nat.le_refl _⟩ dX8_turnAll_104 rfl (fun r23 σ22 H locs hF hP => ?_)
          refine lv_if_ne (tgt := 132) X.1 X.2.1 dX8_turnAll_107 (by decide) (fun c29 => ?_) (fun c29 => ?_)
          · have hF := hF.1 c29
            refine ph_iinc (v := x6 + 1) (k := 6) X hl dX8_turnAll_132 rfl rfl (by decide) rfl (fun ls hl => ?_)
            refine lv_goto (tgt := 71) X.1 X.2.1 dX8_turnAll_135 (by decide) ?_
            exact ih _ _ _ _ _ _ _ _ _ hF hP (lh_sub hl [2, 3, 4, 5, 6, 0] rfl)
          · have hF := hF.2 c29
            refine ph_aload_n (n := 1) X hl dX8_turnAll_110 rfl rfl ?_
            refine ph_iload (n := 6) X hl dX8_turnAll_111 rfl ?_
            refine ph_iload_n (n := 3) X hl dX8_turnAll_113 rfl rfl ?_
            refine tw_callVi [iX x6, iX x3] X hP (met_X8_wakes l D dA ad _ _ hF) (cwV 2 X.2.2.2.2.1 (lw_V q2227 q2229 qs82 q126 q2230) rfl rfl rfl (by decide +kernel) ⟨Nat.le_of_ble_eq_true rfl, Nat.le_of_ble_eq_true rfl⟩) rfl hl (k8 := 0) (cs0 (k := 0)) (by decide) ⟨Nat.le_refl _, Nat.le_refl _⟩ dX8_turnAll_114 rfl (fun r25 σ24 H locs hF hP => ?_)
            refine lv_if_ne (tgt := 123) X.1 X.2.1 dX8_turnAll_117 (by decide) (fun c28 => ?_) (fun c28 => ?_)
            · have hF := hF.1 c28
              refine ph_aload_n (n := 1) X hl dX8_turnAll_123 rfl rfl ?_
              refine ph_iload (n := 0) X hl dX8_turnAll_124 rfl ?_
              refine tw_callVv [iX (σ 18 x6.toNatClampNeg)] X hP (met_X8_wake l D dA ad _ _ hF) (cwV 1 X.2.2.2.2.1 (lw_V q2243 q2245 qs85 q126 q2246) rfl rfl rfl (by decide +kernel) ⟨Nat.le_of_ble_eq_true rfl, Nat.le_of_ble_eq_true rfl⟩) rfl hl (k8 := 0) (cs0 (k := 0)) (by decide) ⟨Nat.le_refl _, Nat.le_refl _⟩ dX8_turnAll_126 rfl (fun σ26 H locs hF hP => ?_)
              refine ph_iinc (v := x5 + 1) (k := 5) X hl dX8_turnAll_129 rfl rfl (by decide) rfl (fun ls hl => ?_)
              refine ph_iinc (v := x6 + 1) (k := 6) X hl dX8_turnAll_132 rfl rfl (by decide) rfl (fun ls hl => ?_)
              refine lv_goto (tgt := 71) X.1 X.2.1 dX8_turnAll_135 (by decide) ?_
              exact ih _ _ _ _ _ _ _ _ _ hF hP (lh_sub hl [3, 4, 5, 6, 1, 0] rfl)
            · have hF := hF.2 c28
              refine lv_goto (tgt := 132) X.1 X.2.1 dX8_turnAll_120 (by decide) ?_
              refine ph_iinc (v := x6 + 1) (k := 6) X hl dX8_turnAll_132 rfl rfl (by decide) rfl (fun ls hl => ?_)
              refine lv_goto (tgt := 71) X.1 X.2.1 dX8_turnAll_135 (by decide) ?_
              exact ih _ _ _ _ _ _ _ _ _ hF hP (lh_sub hl [2, 3, 4, 5, 6, 0] rfl)
set_option maxHeartbeats 2000000 in
theorem w_X8_turnAll_3 (X : CX p s m args c meth cX8_turnAll 8 none RX8 D dA ad A) {Q : S → Prop} : ∀ (n : Nat) (x1 : Int32) (x2 : Int32) (x3 : Int32) (x4 : Int32) (x5 : Int32) (σ : S) (H : Heap) (locs : List Loc) (ls : Array Slot), P_X8_turnAll_3 Q n x1 x2 x3 x4 x5 σ → PW D dA A s.heap ad (TH σ) H locs → LH ad ls 8 [(0, pX 200), (1, iX x1), (2, iX x2), (3, iX x3), (4, iX x4), (5, iX x5)] → WTv p l e ({ frames := 3, cells := 0, slots := 0, locals := 69 } : Room) s m args below meth c D dA ad A Q H locs (F0 m 3 ls []) := by
  intro n
  induction n with
  | zero =>
    intro x1 x2 x3 x4 x5 σ H locs ls hF
    exact hF.elim
  | succ n ih =>
    intro x1 x2 x3 x4 x5 σ H locs ls hF hP hl
    rw [P_X8_turnAll_3] at hF
    refine ph_iload (n := 5) X hl dX8_turnAll_3 rfl ?_
    refine ph_iload_n (n := 2) X hl dX8_turnAll_5 rfl rfl ?_
    refine lv_icmp_ge (tgt := 65) X.1 X.2.1 dX8_turnAll_6 (by decide) (fun c41 => ?_) (fun c41 => ?_)
    · have hF := hF.1 c41
      refine lv_iconst (v := 0) X.1 X.2.1 dX8_turnAll_65 (by decide) ?_
      refine ph_istore X hl dX8_turnAll_66 (by decide) rfl (fun ls hl => ?_)
      refine ph_iload_n (n := 2) X hl dX8_turnAll_68 rfl rfl ?_
      refine ph_istore X hl dX8_turnAll_69 (by decide) rfl (fun ls hl => ?_)
      obtain ⟨n9, hF⟩ := hF
      exact w_X8_turnAll_71 X n9 _ _ _ _ _ _ _ _ _ hF hP (lh_sub hl [2, 4, 5, 6, 1, 0] rfl)
    · have hF := hF.2 c41
      refine ph_aload_n (n := 0) X hl dX8_turnAll_9 rfl rfl ?_
      refine tw_getr 34 218 X hP q1804 dX8_turnAll_10 ?_
      refine ph_iload (n := 5) X hl dX8_turnAll_13 rfl ?_
      obtain ⟨hr33, hF⟩ := hF
      refine tw_ald 18 (n := 7) X hP hr33 (k := x5.toNatClampNeg) rfl dX8_turnAll_15 ?_
      refine ph_istore X hl dX8_turnAll_16 (by decide) rfl (fun ls hl => ?_)
      refine ph_aload_n (n := 1) X hl dX8_turnAll_18 rfl rfl ?_
      refine tw_getr 4 204 X hP q1774 dX8_turnAll_19 ?_
      refine ph_iload (n := 0) X hl dX8_turnAll_22 rfl ?_
      obtain ⟨hr34, hF⟩ := hF
      refine tw_ald 4 (n := 14) X hP hr34 (k := (σ 18 x5.toNatClampNeg).toNatClampNeg) rfl dX8_turnAll_24 ?_
      refine lv_iconst (v := 3) X.1 X.2.1 dX8_turnAll_25 (by decide) ?_
      refine lv_icmp_ne (tgt := 32) X.1 X.2.1 dX8_turnAll_26 (by decide) (fun c40 => ?_) (fun c40 => ?_)
      · have hF := hF.1 c40
        refine ph_aload_n (n := 1) X hl dX8_turnAll_32 rfl rfl ?_
        refine tw_getr 36 220 X hP q1806 dX8_turnAll_33 ?_
        refine ph_iload (n := 0) X hl dX8_turnAll_36 rfl ?_
        refine lv_iconst (v := 1) X.1 X.2.1 dX8_turnAll_38 (by decide) ?_
        refine ph_aload_n (n := 1) X hl dX8_turnAll_39 rfl rfl ?_
        refine tw_getr 36 220 X hP q1806 dX8_turnAll_40 ?_
        refine ph_iload (n := 0) X hl dX8_turnAll_43 rfl ?_
        obtain ⟨hr35, hF⟩ := hF
        refine tw_ald 20 (n := 7) X hP hr35 (k := (σ 18 x5.toNatClampNeg).toNatClampNeg) rfl dX8_turnAll_45 ?_
        refine lv_isub X.1 X.2.1 dX8_turnAll_46 ?_
        obtain ⟨hr37, hF⟩ := hF
        refine tw_ast 20 (n := 7) X hP hr37 (k := (σ 18 x5.toNatClampNeg).toNatClampNeg) rfl dX8_turnAll_47 hF (fun H locs σ36 hP hF => ?_)
        refine ph_aload_n (n := 1) X hl dX8_turnAll_48 rfl rfl ?_
        refine tw_getr 37 221 X hP q1807 dX8_turnAll_49 ?_
        refine ph_iload (n := 0) X hl dX8_turnAll_52 rfl ?_
        refine ph_aload_n (n := 1) X hl dX8_turnAll_54 rfl rfl ?_
        refine tw_geti 50 X hP q1820 dX8_turnAll_55 ?_
        obtain ⟨hr39, hF⟩ := hF
        refine tw_ast 21 (n := 7) X hP hr39 (k := (σ 18 x5.toNatClampNeg).toNatClampNeg) rfl dX8_turnAll_58 hF (fun H locs σ38 hP hF => ?_)
        refine ph_iinc (v := x5 + 1) (k := 6) X hl dX8_turnAll_59 rfl rfl (by decide) rfl (fun ls hl => ?_)
        refine lv_goto (tgt := 3) X.1 X.2.1 dX8_turnAll_62 (by decide) ?_
        exact ih _ _ _ _ _ _ _ _ _ hF hP (lh_sub hl [2, 3, 4, 5, 6, 0] rfl)
      · have hF := hF.2 c40
        refine lv_goto (tgt := 59) X.1 X.2.1 dX8_turnAll_29 (by decide) ?_
        refine ph_iinc (v := x5 + 1) (k := 6) X hl dX8_turnAll_59 rfl rfl (by decide) rfl (fun ls hl => ?_)
        refine lv_goto (tgt := 3) X.1 X.2.1 dX8_turnAll_62 (by decide) ?_
        exact ih _ _ _ _ _ _ _ _ _ hF hP (lh_sub hl [2, 3, 4, 5, 6, 0] rfl)
set_option maxHeartbeats 2000000 in
theorem met_X8_turnAll (l : Launch) (D : va_G) (dA : Nat → ClassId) (ad : Nat → Nat) (σ : S) (sz : Nat) {a1 : Int32} {a2 : Int32} {a3 : Int32} {a4 : Int32} {Q : S → Prop} (hF : P_X8_turnAll a1 a2 a3 a4 σ Q) : CTv l yX8_turnAll cX8_turnAll 8 ({ frames := 3, cells := 0, slots := 0, locals := 69 } : Room) D dA ad σ sz [pX 200, iX a1, iX a2, iX a3, iX a4] Q := by
  unfold P_X8_turnAll at hF
  refine ph_enter [pX 200, iX a1, iX a2, iX a3, iX a4] (Qc := fun A => va_Qv (TQv Q) (CB D dA ad A) A) (by decide +kernel) (Nat.le_of_ble_eq_true rfl) ?_
  intro p e s m args below meth c A ls X hP hl hnm
  have hl : LH ad ls 8 [(0, pX 200), (1, iX a1), (2, iX a2), (3, iX a3), (4, iX a4)] := hl
  refine ph_iload_n (n := 1) X hl dX8_turnAll_0 rfl rfl ?_
  refine ph_istore X hl dX8_turnAll_1 (by decide) rfl (fun ls hl => ?_)
  obtain ⟨n9, hF⟩ := hF
  exact w_X8_turnAll_3 X n9 _ _ _ _ _ _ _ _ _ hF hP (lh_sub hl [1, 2, 3, 4, 5, 0] rfl)
def P_X8_hasEnough (a1 : Int32) (σ : S) (Q : Int32 → S → Prop) : Prop := (vp_in a1 14 ∧ (((σ 4 a1.toNatClampNeg) = 3 → (Q 0 σ)) ∧ (¬ (σ 4 a1.toNatClampNeg) = 3 → (vp_in a1 7 ∧ (vp_in a1 7 ∧ (vp_in ((2 * a1) + (σ 20 a1.toNatClampNeg)) 28 ∧ ((((σ 0 50) - (σ 21 a1.toNatClampNeg)) < (σ 5 (((2 * a1) + (σ 20 a1.toNatClampNeg)).toNatClampNeg)) → (Q 0 σ)) ∧ (¬ ((σ 0 50) - (σ 21 a1.toNatClampNeg)) < (σ 5 (((2 * a1) + (σ 20 a1.toNatClampNeg)).toNatClampNeg)) → (Q 1 σ)))))))))
set_option maxHeartbeats 2000000 in
theorem met_X8_hasEnough (l : Launch) (D : va_G) (dA : Nat → ClassId) (ad : Nat → Nat) (σ : S) (sz : Nat) {a1 : Int32} {Q : Int32 → S → Prop} (hF : P_X8_hasEnough a1 σ Q) : CTi l yX8_hasEnough cX8_hasEnough 2 .boolean ({ frames := 0, cells := 0, slots := 0, locals := 0 } : Room) D dA ad σ sz [pX 200, iX a1] Q := by
  unfold P_X8_hasEnough at hF
  refine ph_enter [pX 200, iX a1] (Qc := fun A => va_Qi (TQi Q) (CB D dA ad A) A) (by decide +kernel) (Nat.le_of_ble_eq_true rfl) ?_
  intro p e s m args below meth c A ls X hP hl hnm
  have hl : LH ad ls 2 [(0, pX 200), (1, iX a1)] := hl
  refine ph_aload_n (n := 0) X hl dX8_hasEnough_0 rfl rfl ?_
  refine tw_getr 4 204 X hP q1774 dX8_hasEnough_1 ?_
  refine ph_iload_n (n := 1) X hl dX8_hasEnough_4 rfl rfl ?_
  obtain ⟨hr1, hF⟩ := hF
  refine tw_ald 4 (n := 14) X hP hr1 (k := a1.toNatClampNeg) rfl dX8_hasEnough_5 ?_
  refine lv_iconst (v := 3) X.1 X.2.1 dX8_hasEnough_6 (by decide) ?_
  refine lv_icmp_eq (tgt := 43) X.1 X.2.1 dX8_hasEnough_7 (by decide) (fun c6 => ?_) (fun c6 => ?_)
  · have hF := hF.1 c6
    refine lv_iconst (v := 0) X.1 X.2.1 dX8_hasEnough_43 (by decide) ?_
    exact tw_zret X hP isB_0 hF dX8_hasEnough_44
  · have hF := hF.2 c6
    refine ph_aload_n (n := 0) X hl dX8_hasEnough_10 rfl rfl ?_
    refine tw_geti 50 X hP q1820 dX8_hasEnough_11 ?_
    refine ph_aload_n (n := 0) X hl dX8_hasEnough_14 rfl rfl ?_
    refine tw_getr 37 221 X hP q1807 dX8_hasEnough_15 ?_
    refine ph_iload_n (n := 1) X hl dX8_hasEnough_18 rfl rfl ?_
    obtain ⟨hr2, hF⟩ := hF
    refine tw_ald 21 (n := 7) X hP hr2 (k := a1.toNatClampNeg) rfl dX8_hasEnough_19 ?_
    refine lv_isub X.1 X.2.1 dX8_hasEnough_20 ?_
    refine ph_aload_n (n := 0) X hl dX8_hasEnough_21 rfl rfl ?_
    refine tw_getr 5 205 X hP q1775 dX8_hasEnough_22 ?_
    refine lv_iconst (v := 2) X.1 X.2.1 dX8_hasEnough_25 (by decide) ?_
    refine ph_iload_n (n := 1) X hl dX8_hasEnough_26 rfl rfl ?_
    refine lv_imul X.1 X.2.1 dX8_hasEnough_27 ?_
    refine ph_aload_n (n := 0) X hl dX8_hasEnough_28 rfl rfl ?_
    refine tw_getr 36 220 X hP q1806 dX8_hasEnough_29 ?_
    refine ph_iload_n (n := 1) X hl dX8_hasEnough_32 rfl rfl ?_
    obtain ⟨hr3, hF⟩ := hF
    refine tw_ald 20 (n := 7) X hP hr3 (k := a1.toNatClampNeg) rfl dX8_hasEnough_33 ?_
    refine lv_iadd X.1 X.2.1 dX8_hasEnough_34 ?_
    obtain ⟨hr4, hF⟩ := hF
    refine tw_ald 5 (n := 28) X hP hr4 (k := ((2 * a1) + (σ 20 a1.toNatClampNeg)).toNatClampNeg) rfl dX8_hasEnough_35 ?_
    refine lv_icmp_lt (tgt := 43) X.1 X.2.1 dX8_hasEnough_36 (by decide) (fun c5 => ?_) (fun c5 => ?_)
    · have hF := hF.1 c5
      refine lv_iconst (v := 0) X.1 X.2.1 dX8_hasEnough_43 (by decide) ?_
      exact tw_zret X hP isB_0 hF dX8_hasEnough_44
    · have hF := hF.2 c5
      refine lv_iconst (v := 1) X.1 X.2.1 dX8_hasEnough_39 (by decide) ?_
      refine lv_goto (tgt := 44) X.1 X.2.1 dX8_hasEnough_40 (by decide) ?_
      exact tw_zret X hP isB_1 hF dX8_hasEnough_44
def P_X8_groupEnd_4 (Q : Int32 → S → Prop) : Nat → Int32 → S → Prop
  | 0, _, _ => False
  | n + 1, x2, σ => (((σ 0 45) ≤ x2 → (Q x2 σ)) ∧ (¬ (σ 0 45) ≤ x2 → ((¬ (σ 0 53) = 0 → (Q x2 σ)) ∧ ((σ 0 53) = 0 → ((¬ (((σ 0 48) >>> ((x2 : Int32) &&& 31)) &&& 1) = 0 → (Q x2 σ)) ∧ ((((σ 0 48) >>> ((x2 : Int32) &&& 31)) &&& 1) = 0 → (P_X8_groupEnd_4 Q  n (x2 + 1) σ)))))))
def P_X8_groupEnd (a1 : Int32) (σ : S) (Q : Int32 → S → Prop) : Prop := (∃ n9, P_X8_groupEnd_4 Q n9 (a1 + 1) σ)
set_option maxHeartbeats 2000000 in
theorem w_X8_groupEnd_4 (X : CX p s m args c meth cX8_groupEnd 3 (some .int) RX8 D dA ad A) {Q : Int32 → S → Prop} : ∀ (n : Nat) (x2 : Int32) (σ : S) (H : Heap) (locs : List Loc) (ls : Array Slot), P_X8_groupEnd_4 Q n x2 σ → PW D dA A s.heap ad (TH σ) H locs → LH ad ls 3 [(0, pX 200), (2, iX x2)] → WTi p l e ({ frames := 0, cells := 0, slots := 0, locals := 0 } : Room) s m args below meth c D dA ad A Q H locs (F0 m 4 ls []) := by
  intro n
  induction n with
  | zero =>
    intro x2 σ H locs ls hF
    exact hF.elim
  | succ n ih =>
    intro x2 σ H locs ls hF hP hl
    rw [P_X8_groupEnd_4] at hF
    refine ph_iload_n (n := 1) X hl dX8_groupEnd_4 rfl rfl ?_
    refine ph_aload_n (n := 0) X hl dX8_groupEnd_5 rfl rfl ?_
    refine tw_geti 45 X hP q1815 dX8_groupEnd_6 ?_
    refine lv_icmp_ge (tgt := 36) X.1 X.2.1 dX8_groupEnd_9 (by decide) (fun c3 => ?_) (fun c3 => ?_)
    · have hF := hF.1 c3
      refine ph_iload_n (n := 1) X hl dX8_groupEnd_36 rfl rfl ?_
      exact tw_iret X hP hF dX8_groupEnd_37
    · have hF := hF.2 c3
      refine ph_aload_n (n := 0) X hl dX8_groupEnd_12 rfl rfl ?_
      refine tw_geti 53 X hP q1823 dX8_groupEnd_13 ?_
      refine lv_if_ne (tgt := 36) X.1 X.2.1 dX8_groupEnd_16 (by decide) (fun c2 => ?_) (fun c2 => ?_)
      · have hF := hF.1 c2
        refine ph_iload_n (n := 1) X hl dX8_groupEnd_36 rfl rfl ?_
        exact tw_iret X hP hF dX8_groupEnd_37
      · have hF := hF.2 c2
        refine ph_aload_n (n := 0) X hl dX8_groupEnd_19 rfl rfl ?_
        refine tw_geti 48 X hP q1818 dX8_groupEnd_20 ?_
        refine ph_iload_n (n := 1) X hl dX8_groupEnd_23 rfl rfl ?_
        refine lv_ishr X.1 X.2.1 dX8_groupEnd_24 ?_
        refine lv_iconst (v := 1) X.1 X.2.1 dX8_groupEnd_25 (by decide) ?_
        refine lv_iand X.1 X.2.1 dX8_groupEnd_26 ?_
        refine lv_if_ne (tgt := 36) X.1 X.2.1 dX8_groupEnd_27 (by decide) (fun c1 => ?_) (fun c1 => ?_)
        · have hF := hF.1 c1
          refine ph_iload_n (n := 1) X hl dX8_groupEnd_36 rfl rfl ?_
          exact tw_iret X hP hF dX8_groupEnd_37
        · have hF := hF.2 c1
          refine ph_iinc (v := x2 + 1) (k := 1) X hl dX8_groupEnd_30 rfl rfl (by decide) rfl (fun ls hl => ?_)
          refine lv_goto (tgt := 4) X.1 X.2.1 dX8_groupEnd_33 (by decide) ?_
          exact ih _ _ _ _ _ hF hP (lh_sub hl [1, 0] rfl)
set_option maxHeartbeats 2000000 in
theorem met_X8_groupEnd (l : Launch) (D : va_G) (dA : Nat → ClassId) (ad : Nat → Nat) (σ : S) (sz : Nat) {a1 : Int32} {Q : Int32 → S → Prop} (hF : P_X8_groupEnd a1 σ Q) : CTi l yX8_groupEnd cX8_groupEnd 3 .int ({ frames := 0, cells := 0, slots := 0, locals := 0 } : Room) D dA ad σ sz [pX 200, iX a1] Q := by
  unfold P_X8_groupEnd at hF
  refine ph_enter [pX 200, iX a1] (Qc := fun A => va_Qi (TQi Q) (CB D dA ad A) A) (by decide +kernel) (Nat.le_of_ble_eq_true rfl) ?_
  intro p e s m args below meth c A ls X hP hl hnm
  have hl : LH ad ls 3 [(0, pX 200), (1, iX a1)] := hl
  refine ph_iload_n (n := 1) X hl dX8_groupEnd_0 rfl rfl ?_
  refine lv_iconst (v := 1) X.1 X.2.1 dX8_groupEnd_1 (by decide) ?_
  refine lv_iadd X.1 X.2.1 dX8_groupEnd_2 ?_
  refine ph_istore_n X hl dX8_groupEnd_3 rfl (by decide) rfl (fun ls hl => ?_)
  obtain ⟨n9, hF⟩ := hF
  exact w_X8_groupEnd_4 X n9 _ _ _ _ _ hF hP (lh_sub hl [1, 0] rfl)
def P_X8_minuteNow_144 (Q : S → Prop) (k111 : Int32 → S → Prop) : Nat → Int32 → Int32 → S → Prop
  | 0, _, _, _ => False
  | n + 1, x1, x2, σ => (((σ 0 45) ≤ x2 → (k111 (x1 + 1) σ)) ∧ (¬ (σ 0 45) ≤ x2 → (vp_in x2 7 ∧ (P_X8_isDeaf (σ 18 x2.toNatClampNeg) σ (fun r3 σ2 => ((¬ r3 = 0 → (P_X8_minuteNow_144 Q k111  n x1 (x2 + 1) σ2)) ∧ (r3 = 0 → (vp_in x2 7 ∧ (P_X8_isAwake (σ2 18 x2.toNatClampNeg) σ2 (fun r6 σ5 => ((¬ r6 = 0 → (P_X8_minuteNow_144 Q k111  n x1 (x2 + 1) σ5)) ∧ (r6 = 0 → (vp_in x2 7 ∧ (P_X8_wake (σ5 18 x2.toNatClampNeg) σ5 (fun σ8 => (P_X8_minuteNow_144 Q k111  n x1 (x2 + 1) σ8))))))))))))))))
def P_X8_minuteNow_111 (Q : S → Prop) : Nat → Int32 → S → Prop
  | 0, _, _ => False
  | n + 1, x1, σ => (((σ 0 45) ≤ x1 → (Q σ)) ∧ (¬ (σ 0 45) ≤ x1 → (vp_in x1 7 ∧ (vp_in (σ 18 x1.toNatClampNeg) 7 ∧ (((σ 19 ((σ 18 x1.toNatClampNeg).toNatClampNeg)) = (σ 0 50) → (∃ n9, P_X8_minuteNow_144 Q (fun z0 z1 => P_X8_minuteNow_111 Q  n z0 z1) n9 x1 (x1 + 1) σ)) ∧ (¬ (σ 19 ((σ 18 x1.toNatClampNeg).toNatClampNeg)) = (σ 0 50) → (P_X8_minuteNow_111 Q  n (x1 + 1) σ)))))))
def P_X8_minuteNow_87 (Q : S → Prop) (k47 : Int32 → S → Prop) (x1 : Int32) (x2 : Int32) (x3 : Int32) (σ : S) : Prop := ((x2 ≤ x3 → (P_X8_groupEnd x1 σ (fun r18 σ17 => (k47 r18 σ17)))) ∧ (¬ x2 ≤ x3 → (P_X8_turnAll x1 x2 x3 0 σ (fun σ19 => (P_X8_groupEnd x1 σ19 (fun r22 σ21 => (k47 r22 σ21)))))))
def P_X8_minuteNow_63 (Q : S → Prop) (k47 : Int32 → S → Prop) : Nat → Int32 → Int32 → Int32 → S → Prop
  | 0, _, _, _, _ => False
  | n + 1, x1, x2, x3, σ => ((x2 ≤ x3 → (P_X8_minuteNow_87 Q k47 x1 x2 x3 σ)) ∧ (¬ x2 ≤ x3 → (vp_in x3 7 ∧ (P_X8_hasEnough (σ 18 x3.toNatClampNeg) σ (fun r26 σ25 => ((¬ r26 = 0 → (P_X8_minuteNow_87 Q k47 x1 x2 x3 σ25)) ∧ (r26 = 0 → (P_X8_minuteNow_63 Q k47  n x1 x2 (x3 + 1) σ25))))))))
def P_X8_minuteNow_47 (Q : S → Prop) : Nat → Int32 → S → Prop
  | 0, _, _ => False
  | n + 1, x1, σ => (((σ 0 45) ≤ x1 → (∃ n9, P_X8_minuteNow_111 Q n9 0 σ)) ∧ (¬ (σ 0 45) ≤ x1 → (P_X8_groupEnd x1 σ (fun r30 σ29 => (∃ n9, P_X8_minuteNow_63 Q (fun z0 z1 => P_X8_minuteNow_47 Q  n z0 z1) n9 x1 r30 x1 σ29)))))
def P_X8_minuteNow  (σ : S) (Q : S → Prop) : Prop := (((σ 0 46) = (-1) → (∃ n9, P_X8_minuteNow_47 Q n9 0 σ)) ∧ (¬ (σ 0 46) = (-1) → (((σ 0 47) ≤ 0 → (∃ n9, P_X8_minuteNow_47 Q n9 0 σ)) ∧ (¬ (σ 0 47) ≤ 0 → (¬ (σ 0 47) = 0 ∧ ((¬ ((σ 0 50) - (σ 0 50) / (σ 0 47) * (σ 0 47)) = 0 → (∃ n9, P_X8_minuteNow_47 Q n9 0 σ)) ∧ (((σ 0 50) - (σ 0 50) / (σ 0 47) * (σ 0 47)) = 0 → (P_X8_placeOf (σ 0 46) σ (fun r34 σ33 => (P_X8_turnAll 0 (σ 0 45) r34 1 σ33 (fun σ35 => (∃ n9, P_X8_minuteNow_47 Q n9 0 σ35))))))))))))
set_option maxHeartbeats 2000000 in
theorem w_X8_minuteNow_144 (X : CX p s m args c meth cX8_minuteNow 4 none RX8 D dA ad A) {Q : S → Prop} {k111 : Int32 → S → Prop} (hk111 : ∀ (x1 : Int32) (σ : S) (H : Heap) (locs : List Loc) (ls : Array Slot), k111 x1 σ → PW D dA A s.heap ad (TH σ) H locs → LH ad ls 4 [(0, pX 200), (1, iX x1)] → WTv p l e ({ frames := 4, cells := 0, slots := 0, locals := 96 } : Room) s m args below meth c D dA ad A Q H locs (F0 m 111 ls [])) : ∀ (n : Nat) (x1 : Int32) (x2 : Int32) (σ : S) (H : Heap) (locs : List Loc) (ls : Array Slot), P_X8_minuteNow_144 Q k111 n x1 x2 σ → PW D dA A s.heap ad (TH σ) H locs → LH ad ls 4 [(0, pX 200), (1, iX x1), (2, iX x2)] → WTv p l e ({ frames := 4, cells := 0, slots := 0, locals := 96 } : Room) s m args below meth c D dA ad A Q H locs (F0 m 144 ls []) := by
  intro n
  induction n with
  | zero =>
    intro x1 x2 σ H locs ls hF
    exact hF.elim
  | succ n ih =>
    intro x1 x2 σ H locs ls hF hP hl
    rw [P_X8_minuteNow_144] at hF
    refine ph_iload_n (n := 2) X hl dX8_minuteNow_144 rfl rfl ?_
    refine ph_aload_n (n := 0) X hl dX8_minuteNow_145 rfl rfl ?_
    refine tw_geti 45 X hP q1815 dX8_minuteNow_146 ?_
    refine lv_icmp_ge (tgt := 194) X.1 X.2.1 dX8_minuteNow_149 (by decide) (fun c12 => ?_) (fun c12 => ?_)
    · have hF := hF.1 c12
      refine ph_iinc (v := x1 + 1) (k := 1) X hl dX8_minuteNow_194 rfl rfl (by decide) rfl (fun ls hl => ?_)
      refine lv_goto (tgt := 111) X.1 X.2.1 dX8_minuteNow_197 (by decide) ?_
      exact hk111 _ _ _ _ _ hF hP (lh_sub hl [1, 0] rfl)
    · have hF := hF.2 c12
      refine ph_aload_n (n := 0) X hl dX8_minuteNow_152 rfl rfl ?_
      refine ph_aload_n (n := 0) X hl dX8_minuteNow_153 rfl rfl ?_
      refine tw_getr 34 218 X hP q1804 dX8_minuteNow_154 ?_
      refine ph_iload_n (n := 2) X hl dX8_minuteNow_157 rfl rfl ?_
      obtain ⟨hr1, hF⟩ := hF
      refine tw_ald 18 (n := 7) X hP hr1 (k := x2.toNatClampNeg) rfl dX8_minuteNow_158 ?_
      refine tw_callVi [iX (σ 18 x2.toNatClampNeg)] X hP (met_X8_isDeaf l D dA ad _ _ hF) (cwV 1 X.2.2.2.2.1 (lw_V q2219 q2221 qs80 q126 q2222) rfl rfl rfl (by decide +kernel) ⟨Nat.le_of_ble_eq_true rfl, Nat.le_of_ble_eq_true rfl⟩) rfl hl (k8 := 0) (cs0 (k := 0)) (by decide) ⟨Nat.le_refl _, Nat.le_refl _⟩ dX8_minuteNow_159 rfl (fun r3 σ2 H locs hF hP => ?_)
      refine lv_if_ne (tgt := 188) X.1 X.2.1 dX8_minuteNow_162 (by decide) (fun c11 => ?_) (fun c11 => ?_)
      · have hF := hF.1 c11
        refine ph_iinc (v := x2 + 1) (k := 2) X hl dX8_minuteNow_188 rfl rfl (by decide) rfl (fun ls hl => ?_)
        refine lv_goto (tgt := 144) X.1 X.2.1 dX8_minuteNow_191 (by decide) ?_
        exact ih _ _ _ _ _ _ hF hP (lh_sub hl [1, 2, 0] rfl)
      · have hF := hF.2 c11
        refine ph_aload_n (n := 0) X hl dX8_minuteNow_165 rfl rfl ?_
        refine ph_aload_n (n := 0) X hl dX8_minuteNow_166 rfl rfl ?_
        refine tw_getr 34 218 X hP q1804 dX8_minuteNow_167 ?_
        refine ph_iload_n (n := 2) X hl dX8_minuteNow_170 rfl rfl ?_
        obtain ⟨hr4, hF⟩ := hF
        refine tw_ald 18 (n := 7) X hP hr4 (k := x2.toNatClampNeg) rfl dX8_minuteNow_171 ?_
        refine tw_callVi [iX (σ2 18 x2.toNatClampNeg)] X hP (met_X8_isAwake l D dA ad _ _ hF) (cwV 1 X.2.2.2.2.1 (lw_V q2223 q2225 qs81 q126 q2226) rfl rfl rfl (by decide +kernel) ⟨Nat.le_of_ble_eq_true rfl, Nat.le_of_ble_eq_true rfl⟩) rfl hl (k8 := 0) (cs0 (k := 0)) (by decide) ⟨Nat.le_refl _, Nat.le_refl _⟩ dX8_minuteNow_172 rfl (fun r6 σ5 H locs hF hP => ?_)
        refine lv_if_ne (tgt := 188) X.1 X.2.1 dX8_minuteNow_175 (by decide) (fun c10 => ?_) (fun c10 => ?_)
        · have hF := hF.1 c10
          refine ph_iinc (v := x2 + 1) (k := 2) X hl dX8_minuteNow_188 rfl rfl (by decide) rfl (fun ls hl => ?_)
          refine lv_goto (tgt := 144) X.1 X.2.1 dX8_minuteNow_191 (by decide) ?_
          exact ih _ _ _ _ _ _ hF hP (lh_sub hl [1, 2, 0] rfl)
        · have hF := hF.2 c10
          refine ph_aload_n (n := 0) X hl dX8_minuteNow_178 rfl rfl ?_
          refine ph_aload_n (n := 0) X hl dX8_minuteNow_179 rfl rfl ?_
          refine tw_getr 34 218 X hP q1804 dX8_minuteNow_180 ?_
          refine ph_iload_n (n := 2) X hl dX8_minuteNow_183 rfl rfl ?_
          obtain ⟨hr7, hF⟩ := hF
          refine tw_ald 18 (n := 7) X hP hr7 (k := x2.toNatClampNeg) rfl dX8_minuteNow_184 ?_
          refine tw_callVv [iX (σ5 18 x2.toNatClampNeg)] X hP (met_X8_wake l D dA ad _ _ hF) (cwV 1 X.2.2.2.2.1 (lw_V q2243 q2245 qs85 q126 q2246) rfl rfl rfl (by decide +kernel) ⟨Nat.le_of_ble_eq_true rfl, Nat.le_of_ble_eq_true rfl⟩) rfl hl (k8 := 0) (cs0 (k := 0)) (by decide) ⟨Nat.le_refl _, Nat.le_refl _⟩ dX8_minuteNow_185 rfl (fun σ8 H locs hF hP => ?_)
          refine ph_iinc (v := x2 + 1) (k := 2) X hl dX8_minuteNow_188 rfl rfl (by decide) rfl (fun ls hl => ?_)
          refine lv_goto (tgt := 144) X.1 X.2.1 dX8_minuteNow_191 (by decide) ?_
          exact ih _ _ _ _ _ _ hF hP (lh_sub hl [1, 2, 0] rfl)
set_option maxHeartbeats 2000000 in
theorem w_X8_minuteNow_111 (X : CX p s m args c meth cX8_minuteNow 4 none RX8 D dA ad A) {Q : S → Prop} : ∀ (n : Nat) (x1 : Int32) (σ : S) (H : Heap) (locs : List Loc) (ls : Array Slot), P_X8_minuteNow_111 Q n x1 σ → PW D dA A s.heap ad (TH σ) H locs → LH ad ls 4 [(0, pX 200), (1, iX x1)] → WTv p l e ({ frames := 4, cells := 0, slots := 0, locals := 96 } : Room) s m args below meth c D dA ad A Q H locs (F0 m 111 ls []) := by
  intro n
  induction n with
  | zero =>
    intro x1 σ H locs ls hF
    exact hF.elim
  | succ n ih =>
    intro x1 σ H locs ls hF hP hl
    rw [P_X8_minuteNow_111] at hF
    refine ph_iload_n (n := 1) X hl dX8_minuteNow_111 rfl rfl ?_
    refine ph_aload_n (n := 0) X hl dX8_minuteNow_112 rfl rfl ?_
    refine tw_geti 45 X hP q1815 dX8_minuteNow_113 ?_
    refine lv_icmp_ge (tgt := 200) X.1 X.2.1 dX8_minuteNow_116 (by decide) (fun c16 => ?_) (fun c16 => ?_)
    · have hF := hF.1 c16
      exact tw_vret X hP hF dX8_minuteNow_200
    · have hF := hF.2 c16
      refine ph_aload_n (n := 0) X hl dX8_minuteNow_119 rfl rfl ?_
      refine tw_getr 35 219 X hP q1805 dX8_minuteNow_120 ?_
      refine ph_aload_n (n := 0) X hl dX8_minuteNow_123 rfl rfl ?_
      refine tw_getr 34 218 X hP q1804 dX8_minuteNow_124 ?_
      refine ph_iload_n (n := 1) X hl dX8_minuteNow_127 rfl rfl ?_
      obtain ⟨hr13, hF⟩ := hF
      refine tw_ald 18 (n := 7) X hP hr13 (k := x1.toNatClampNeg) rfl dX8_minuteNow_128 ?_
      obtain ⟨hr14, hF⟩ := hF
      refine tw_ald 19 (n := 7) X hP hr14 (k := (σ 18 x1.toNatClampNeg).toNatClampNeg) rfl dX8_minuteNow_129 ?_
      refine ph_aload_n (n := 0) X hl dX8_minuteNow_130 rfl rfl ?_
      refine tw_geti 50 X hP q1820 dX8_minuteNow_131 ?_
      refine lv_icmp_eq (tgt := 140) X.1 X.2.1 dX8_minuteNow_134 (by decide) (fun c15 => ?_) (fun c15 => ?_)
      · have hF := hF.1 c15
        refine ph_iload_n (n := 1) X hl dX8_minuteNow_140 rfl rfl ?_
        refine lv_iconst (v := 1) X.1 X.2.1 dX8_minuteNow_141 (by decide) ?_
        refine lv_iadd X.1 X.2.1 dX8_minuteNow_142 ?_
        refine ph_istore_n X hl dX8_minuteNow_143 rfl (by decide) rfl (fun ls hl => ?_)
        obtain ⟨n9, hF⟩ := hF
        exact w_X8_minuteNow_144 X ih n9 _ _ _ _ _ _ hF hP (lh_sub hl [1, 2, 0] rfl)
      · have hF := hF.2 c15
        refine lv_goto (tgt := 194) X.1 X.2.1 dX8_minuteNow_137 (by decide) ?_
        refine ph_iinc (v := x1 + 1) (k := 1) X hl dX8_minuteNow_194 rfl rfl (by decide) rfl (fun ls hl => ?_)
        refine lv_goto (tgt := 111) X.1 X.2.1 dX8_minuteNow_197 (by decide) ?_
        exact ih _ _ _ _ _ hF hP (lh_sub hl [1, 0] rfl)
set_option maxHeartbeats 2000000 in
theorem w_X8_minuteNow_87 (X : CX p s m args c meth cX8_minuteNow 4 none RX8 D dA ad A) {Q : S → Prop} {k47 : Int32 → S → Prop} (hk47 : ∀ (x1 : Int32) (σ : S) (H : Heap) (locs : List Loc) (ls : Array Slot), k47 x1 σ → PW D dA A s.heap ad (TH σ) H locs → LH ad ls 4 [(0, pX 200), (1, iX x1)] → WTv p l e ({ frames := 4, cells := 0, slots := 0, locals := 96 } : Room) s m args below meth c D dA ad A Q H locs (F0 m 47 ls [])) : ∀ (x1 : Int32) (x2 : Int32) (x3 : Int32) (σ : S) (H : Heap) (locs : List Loc) (ls : Array Slot), P_X8_minuteNow_87 Q k47 x1 x2 x3 σ → PW D dA A s.heap ad (TH σ) H locs → LH ad ls 4 [(0, pX 200), (1, iX x1), (2, iX x2), (3, iX x3)] → WTv p l e ({ frames := 4, cells := 0, slots := 0, locals := 96 } : Room) s m args below meth c D dA ad A Q H locs (F0 m 87 ls []) := by
  intro x1 x2 x3 σ H locs ls hF hP hl
  unfold P_X8_minuteNow_87 at hF
  refine ph_iload_n (n := 3) X hl dX8_minuteNow_87 rfl rfl ?_
  refine ph_iload_n (n := 2) X hl dX8_minuteNow_88 rfl rfl ?_
  refine lv_icmp_ge (tgt := 100) X.1 X.2.1 dX8_minuteNow_89 (by decide) (fun c23 => ?_) (fun c23 => ?_)
  · have hF := hF.1 c23
    refine ph_aload_n (n := 0) X hl dX8_minuteNow_100 rfl rfl ?_
    refine ph_iload_n (n := 1) X hl dX8_minuteNow_101 rfl rfl ?_
    refine tw_callVi [iX x1] X hP (met_X8_groupEnd l D dA ad _ _ hF) (cwV 1 X.2.2.2.2.1 (lw_V q2248 q2250 qs86 q126 q2251) rfl rfl rfl (by decide +kernel) ⟨Nat.le_of_ble_eq_true rfl, Nat.le_of_ble_eq_true rfl⟩) rfl hl (k8 := 0) (cs0 (k := 0)) (by decide) ⟨Nat.le_refl _, Nat.le_refl _⟩ dX8_minuteNow_102 rfl (fun r18 σ17 H locs hF hP => ?_)
    refine ph_istore_n X hl dX8_minuteNow_105 rfl (by decide) rfl (fun ls hl => ?_)
    refine lv_goto (tgt := 47) X.1 X.2.1 dX8_minuteNow_106 (by decide) ?_
    exact hk47 _ _ _ _ _ hF hP (lh_sub hl [1, 0] rfl)
  · have hF := hF.2 c23
    refine ph_aload_n (n := 0) X hl dX8_minuteNow_92 rfl rfl ?_
    refine ph_iload_n (n := 1) X hl dX8_minuteNow_93 rfl rfl ?_
    refine ph_iload_n (n := 2) X hl dX8_minuteNow_94 rfl rfl ?_
    refine ph_iload_n (n := 3) X hl dX8_minuteNow_95 rfl rfl ?_
    refine lv_iconst (v := 0) X.1 X.2.1 dX8_minuteNow_96 (by decide) ?_
    refine tw_callVv [iX x1, iX x2, iX x3, iX 0] X hP (met_X8_turnAll l D dA ad _ _ hF) (cwV 4 X.2.2.2.2.1 (lw_V q2215 q2217 qs79 q126 q2218) rfl rfl rfl (by decide +kernel) ⟨Nat.le_of_ble_eq_true rfl, Nat.le_of_ble_eq_true rfl⟩) rfl hl (k8 := 0) (cs0 (k := 0)) (by decide) ⟨Nat.le_refl _, Nat.le_refl _⟩ dX8_minuteNow_97 rfl (fun σ19 H locs hF hP => ?_)
    refine ph_aload_n (n := 0) X hl dX8_minuteNow_100 rfl rfl ?_
    refine ph_iload_n (n := 1) X hl dX8_minuteNow_101 rfl rfl ?_
    refine tw_callVi [iX x1] X hP (met_X8_groupEnd l D dA ad _ _ hF) (cwV 1 X.2.2.2.2.1 (lw_V q2248 q2250 qs86 q126 q2251) rfl rfl rfl (by decide +kernel) ⟨Nat.le_of_ble_eq_true rfl, Nat.le_of_ble_eq_true rfl⟩) rfl hl (k8 := 0) (cs0 (k := 0)) (by decide) ⟨Nat.le_refl _, Nat.le_refl _⟩ dX8_minuteNow_102 rfl (fun r22 σ21 H locs hF hP => ?_)
    refine ph_istore_n X hl dX8_minuteNow_105 rfl (by decide) rfl (fun ls hl => ?_)
    refine lv_goto (tgt := 47) X.1 X.2.1 dX8_minuteNow_106 (by decide) ?_
    exact hk47 _ _ _ _ _ hF hP (lh_sub hl [1, 0] rfl)
set_option maxHeartbeats 2000000 in
theorem w_X8_minuteNow_63 (X : CX p s m args c meth cX8_minuteNow 4 none RX8 D dA ad A) {Q : S → Prop} {k47 : Int32 → S → Prop} (hk47 : ∀ (x1 : Int32) (σ : S) (H : Heap) (locs : List Loc) (ls : Array Slot), k47 x1 σ → PW D dA A s.heap ad (TH σ) H locs → LH ad ls 4 [(0, pX 200), (1, iX x1)] → WTv p l e ({ frames := 4, cells := 0, slots := 0, locals := 96 } : Room) s m args below meth c D dA ad A Q H locs (F0 m 47 ls [])) : ∀ (n : Nat) (x1 : Int32) (x2 : Int32) (x3 : Int32) (σ : S) (H : Heap) (locs : List Loc) (ls : Array Slot), P_X8_minuteNow_63 Q k47 n x1 x2 x3 σ → PW D dA A s.heap ad (TH σ) H locs → LH ad ls 4 [(0, pX 200), (1, iX x1), (2, iX x2), (3, iX x3)] → WTv p l e ({ frames := 4, cells := 0, slots := 0, locals := 96 } : Room) s m args below meth c D dA ad A Q H locs (F0 m 63 ls []) := by
  intro n
  induction n with
  | zero =>
    intro x1 x2 x3 σ H locs ls hF
    exact hF.elim
  | succ n ih =>
    intro x1 x2 x3 σ H locs ls hF hP hl
    rw [P_X8_minuteNow_63] at hF
    refine ph_iload_n (n := 3) X hl dX8_minuteNow_63 rfl rfl ?_
    refine ph_iload_n (n := 2) X hl dX8_minuteNow_64 rfl rfl ?_
    refine lv_icmp_ge (tgt := 87) X.1 X.2.1 dX8_minuteNow_65 (by decide) (fun c28 => ?_) (fun c28 => ?_)
    · have hF := hF.1 c28
      exact w_X8_minuteNow_87 X hk47 _ _ _ _ _ _ _ hF hP hl
    · have hF := hF.2 c28
      refine ph_aload_n (n := 0) X hl dX8_minuteNow_68 rfl rfl ?_
      refine ph_aload_n (n := 0) X hl dX8_minuteNow_69 rfl rfl ?_
      refine tw_getr 34 218 X hP q1804 dX8_minuteNow_70 ?_
      refine ph_iload_n (n := 3) X hl dX8_minuteNow_73 rfl rfl ?_
      obtain ⟨hr24, hF⟩ := hF
      refine tw_ald 18 (n := 7) X hP hr24 (k := x3.toNatClampNeg) rfl dX8_minuteNow_74 ?_
      refine tw_callVi [iX (σ 18 x3.toNatClampNeg)] X hP (met_X8_hasEnough l D dA ad _ _ hF) (cwV 1 X.2.2.2.2.1 (lw_V q2252 q2254 qs87 q126 q2255) rfl rfl rfl (by decide +kernel) ⟨Nat.le_of_ble_eq_true rfl, Nat.le_of_ble_eq_true rfl⟩) rfl hl (k8 := 0) (cs0 (k := 0)) (by decide) ⟨Nat.le_refl _, Nat.le_refl _⟩ dX8_minuteNow_75 rfl (fun r26 σ25 H locs hF hP => ?_)
      refine lv_if_ne (tgt := 87) X.1 X.2.1 dX8_minuteNow_78 (by decide) (fun c27 => ?_) (fun c27 => ?_)
      · have hF := hF.1 c27
        exact w_X8_minuteNow_87 X hk47 _ _ _ _ _ _ _ hF hP hl
      · have hF := hF.2 c27
        refine ph_iinc (v := x3 + 1) (k := 3) X hl dX8_minuteNow_81 rfl rfl (by decide) rfl (fun ls hl => ?_)
        refine lv_goto (tgt := 63) X.1 X.2.1 dX8_minuteNow_84 (by decide) ?_
        exact ih _ _ _ _ _ _ _ hF hP (lh_sub hl [1, 2, 3, 0] rfl)
set_option maxHeartbeats 2000000 in
theorem w_X8_minuteNow_47 (X : CX p s m args c meth cX8_minuteNow 4 none RX8 D dA ad A) {Q : S → Prop} : ∀ (n : Nat) (x1 : Int32) (σ : S) (H : Heap) (locs : List Loc) (ls : Array Slot), P_X8_minuteNow_47 Q n x1 σ → PW D dA A s.heap ad (TH σ) H locs → LH ad ls 4 [(0, pX 200), (1, iX x1)] → WTv p l e ({ frames := 4, cells := 0, slots := 0, locals := 96 } : Room) s m args below meth c D dA ad A Q H locs (F0 m 47 ls []) := by
  intro n
  induction n with
  | zero =>
    intro x1 σ H locs ls hF
    exact hF.elim
  | succ n ih =>
    intro x1 σ H locs ls hF hP hl
    rw [P_X8_minuteNow_47] at hF
    refine ph_iload_n (n := 1) X hl dX8_minuteNow_47 rfl rfl ?_
    refine ph_aload_n (n := 0) X hl dX8_minuteNow_48 rfl rfl ?_
    refine tw_geti 45 X hP q1815 dX8_minuteNow_49 ?_
    refine lv_icmp_ge (tgt := 109) X.1 X.2.1 dX8_minuteNow_52 (by decide) (fun c31 => ?_) (fun c31 => ?_)
    · have hF := hF.1 c31
      refine lv_iconst (v := 0) X.1 X.2.1 dX8_minuteNow_109 (by decide) ?_
      refine ph_istore_n X hl dX8_minuteNow_110 rfl (by decide) rfl (fun ls hl => ?_)
      obtain ⟨n9, hF⟩ := hF
      exact w_X8_minuteNow_111 X n9 _ _ _ _ _ hF hP (lh_sub hl [1, 0] rfl)
    · have hF := hF.2 c31
      refine ph_aload_n (n := 0) X hl dX8_minuteNow_55 rfl rfl ?_
      refine ph_iload_n (n := 1) X hl dX8_minuteNow_56 rfl rfl ?_
      refine tw_callVi [iX x1] X hP (met_X8_groupEnd l D dA ad _ _ hF) (cwV 1 X.2.2.2.2.1 (lw_V q2248 q2250 qs86 q126 q2251) rfl rfl rfl (by decide +kernel) ⟨Nat.le_of_ble_eq_true rfl, Nat.le_of_ble_eq_true rfl⟩) rfl hl (k8 := 0) (cs0 (k := 0)) (by decide) ⟨Nat.le_refl _, Nat.le_refl _⟩ dX8_minuteNow_57 rfl (fun r30 σ29 H locs hF hP => ?_)
      refine ph_istore_n X hl dX8_minuteNow_60 rfl (by decide) rfl (fun ls hl => ?_)
      refine ph_iload_n (n := 2) X hl dX8_minuteNow_61 rfl rfl ?_
      refine ph_istore_n X hl dX8_minuteNow_62 rfl (by decide) rfl (fun ls hl => ?_)
      obtain ⟨n9, hF⟩ := hF
      exact w_X8_minuteNow_63 X ih n9 _ _ _ _ _ _ _ hF hP (lh_sub hl [2, 3, 1, 0] rfl)
set_option maxHeartbeats 2000000 in
theorem met_X8_minuteNow (l : Launch) (D : va_G) (dA : Nat → ClassId) (ad : Nat → Nat) (σ : S) (sz : Nat) {Q : S → Prop} (hF : P_X8_minuteNow  σ Q) : CTv l yX8_minuteNow cX8_minuteNow 4 ({ frames := 4, cells := 0, slots := 0, locals := 96 } : Room) D dA ad σ sz [pX 200] Q := by
  unfold P_X8_minuteNow at hF
  refine ph_enter [pX 200] (Qc := fun A => va_Qv (TQv Q) (CB D dA ad A) A) (by decide +kernel) (Nat.le_of_ble_eq_true rfl) ?_
  intro p e s m args below meth c A ls X hP hl hnm
  have hl : LH ad ls 4 [(0, pX 200)] := hl
  refine ph_aload_n (n := 0) X hl dX8_minuteNow_0 rfl rfl ?_
  refine tw_geti 46 X hP q1816 dX8_minuteNow_1 ?_
  refine lv_iconst (v := (-1)) X.1 X.2.1 dX8_minuteNow_4 (by decide) ?_
  refine lv_icmp_eq (tgt := 45) X.1 X.2.1 dX8_minuteNow_5 (by decide) (fun c39 => ?_) (fun c39 => ?_)
  · have hF := hF.1 c39
    refine lv_iconst (v := 0) X.1 X.2.1 dX8_minuteNow_45 (by decide) ?_
    refine ph_istore_n X hl dX8_minuteNow_46 rfl (by decide) rfl (fun ls hl => ?_)
    obtain ⟨n9, hF⟩ := hF
    exact w_X8_minuteNow_47 X n9 _ _ _ _ _ hF hP (lh_sub hl [1, 0] rfl)
  · have hF := hF.2 c39
    refine ph_aload_n (n := 0) X hl dX8_minuteNow_8 rfl rfl ?_
    refine tw_geti 47 X hP q1817 dX8_minuteNow_9 ?_
    refine lv_if_le (tgt := 45) X.1 X.2.1 dX8_minuteNow_12 (by decide) (fun c38 => ?_) (fun c38 => ?_)
    · have hF := hF.1 c38
      refine lv_iconst (v := 0) X.1 X.2.1 dX8_minuteNow_45 (by decide) ?_
      refine ph_istore_n X hl dX8_minuteNow_46 rfl (by decide) rfl (fun ls hl => ?_)
      obtain ⟨n9, hF⟩ := hF
      exact w_X8_minuteNow_47 X n9 _ _ _ _ _ hF hP (lh_sub hl [1, 0] rfl)
    · have hF := hF.2 c38
      refine ph_aload_n (n := 0) X hl dX8_minuteNow_15 rfl rfl ?_
      refine tw_geti 50 X hP q1820 dX8_minuteNow_16 ?_
      refine ph_aload_n (n := 0) X hl dX8_minuteNow_19 rfl rfl ?_
      refine tw_geti 47 X hP q1817 dX8_minuteNow_20 ?_
      obtain ⟨hz32, hF⟩ := hF
      refine lv_irem X.1 X.2.1 dX8_minuteNow_23 hz32 ?_
      refine lv_if_ne (tgt := 45) X.1 X.2.1 dX8_minuteNow_24 (by decide) (fun c37 => ?_) (fun c37 => ?_)
      · have hF := hF.1 c37
        refine lv_iconst (v := 0) X.1 X.2.1 dX8_minuteNow_45 (by decide) ?_
        refine ph_istore_n X hl dX8_minuteNow_46 rfl (by decide) rfl (fun ls hl => ?_)
        obtain ⟨n9, hF⟩ := hF
        exact w_X8_minuteNow_47 X n9 _ _ _ _ _ hF hP (lh_sub hl [1, 0] rfl)
      · have hF := hF.2 c37
        refine ph_aload_n (n := 0) X hl dX8_minuteNow_27 rfl rfl ?_
        refine lv_iconst (v := 0) X.1 X.2.1 dX8_minuteNow_28 (by decide) ?_
        refine ph_aload_n (n := 0) X hl dX8_minuteNow_29 rfl rfl ?_
        refine tw_geti 45 X hP q1815 dX8_minuteNow_30 ?_
        refine ph_aload_n (n := 0) X hl dX8_minuteNow_33 rfl rfl ?_
        refine ph_aload_n (n := 0) X hl dX8_minuteNow_34 rfl rfl ?_
        refine tw_geti 46 X hP q1816 dX8_minuteNow_35 ?_
        refine tw_callVi [iX (σ 0 46)] X hP (met_X8_placeOf l D dA ad _ _ hF) (cwV 1 X.2.2.2.2.1 (lw_V q2147 q2149 qs70 q126 q2150) rfl rfl rfl (by decide +kernel) ⟨Nat.le_of_ble_eq_true rfl, Nat.le_of_ble_eq_true rfl⟩) rfl hl (k8 := 3) (csi (csi (csr (cs0 (k := 0))))) (by decide) ⟨Nat.le_refl _, Nat.le_refl _⟩ dX8_minuteNow_38 rfl (fun r34 σ33 H locs hF hP => ?_)
        refine lv_iconst (v := 1) X.1 X.2.1 dX8_minuteNow_41 (by decide) ?_
        refine tw_callVv [iX 0, iX (σ 0 45), iX r34, iX 1] X hP (met_X8_turnAll l D dA ad _ _ hF) (cwV 4 X.2.2.2.2.1 (lw_V q2215 q2217 qs79 q126 q2218) rfl rfl rfl (by decide +kernel) ⟨Nat.le_of_ble_eq_true rfl, Nat.le_of_ble_eq_true rfl⟩) rfl hl (k8 := 0) (cs0 (k := 0)) (by decide) ⟨Nat.le_refl _, Nat.le_refl _⟩ dX8_minuteNow_42 rfl (fun σ35 H locs hF hP => ?_)
        refine lv_iconst (v := 0) X.1 X.2.1 dX8_minuteNow_45 (by decide) ?_
        refine ph_istore_n X hl dX8_minuteNow_46 rfl (by decide) rfl (fun ls hl => ?_)
        obtain ⟨n9, hF⟩ := hF
        exact w_X8_minuteNow_47 X n9 _ _ _ _ _ hF hP (lh_sub hl [1, 0] rfl)
def P_X8_begin_2 (Q : S → Prop) : Nat → Int32 → Int32 → S → Prop
  | 0, _, _, _ => False
  | n + 1, x1, x2, σ => ((7 ≤ x2 → (∀ σ1, σ1 = up2 σ 0 49 0 → (∀ σ2, σ2 = up2 σ1 0 51 0 → (∀ σ3, σ3 = up2 σ2 0 52 0 → (Q σ3))))) ∧ (¬ 7 ≤ x2 → (vp_in x2 7 ∧ (∀ σ4, σ4 = up2 σ 20 x2.toNatClampNeg x1 → (vp_in x2 7 ∧ (∀ σ6, σ6 = up2 σ4 21 x2.toNatClampNeg 0 → (vp_in x2 7 ∧ (∀ σ8, σ8 = up2 σ6 22 x2.toNatClampNeg (-10000) → (vp_in x2 7 ∧ (∀ σ10, σ10 = up2 σ8 23 x2.toNatClampNeg 0 → (vp_in x2 7 ∧ (∀ σ12, σ12 = up2 σ10 24 x2.toNatClampNeg 0 → (P_X8_begin_2 Q  n x1 (x2 + 1) σ12)))))))))))))
def P_X8_begin (a1 : Int32) (σ : S) (Q : S → Prop) : Prop := (∃ n9, P_X8_begin_2 Q n9 a1 0 σ)
set_option maxHeartbeats 2000000 in
theorem w_X8_begin_2 (X : CX p s m args c meth cX8_begin 3 none RX8 D dA ad A) {Q : S → Prop} : ∀ (n : Nat) (x1 : Int32) (x2 : Int32) (σ : S) (H : Heap) (locs : List Loc) (ls : Array Slot), P_X8_begin_2 Q n x1 x2 σ → PW D dA A s.heap ad (TH σ) H locs → LH ad ls 3 [(0, pX 200), (1, iX x1), (2, iX x2)] → WTv p l e ({ frames := 0, cells := 0, slots := 0, locals := 0 } : Room) s m args below meth c D dA ad A Q H locs (F0 m 2 ls []) := by
  intro n
  induction n with
  | zero =>
    intro x1 x2 σ H locs ls hF
    exact hF.elim
  | succ n ih =>
    intro x1 x2 σ H locs ls hF hP hl
    rw [P_X8_begin_2] at hF
    refine ph_iload_n (n := 2) X hl dX8_begin_2 rfl rfl ?_
    refine lv_bipush (v := 7) X.1 X.2.1 dX8_begin_3 (by decide) ?_
    refine lv_icmp_ge (tgt := 51) X.1 X.2.1 dX8_begin_5 (by decide) (fun c14 => ?_) (fun c14 => ?_)
    · have hF := hF.1 c14
      refine ph_aload_n (n := 0) X hl dX8_begin_51 rfl rfl ?_
      refine lv_iconst (v := 0) X.1 X.2.1 dX8_begin_52 (by decide) ?_
      refine tw_puti 49 X hP q1819 dX8_begin_53 hF (fun H locs σ1 hP hF => ?_)
      refine ph_aload_n (n := 0) X hl dX8_begin_56 rfl rfl ?_
      refine lv_iconst (v := 0) X.1 X.2.1 dX8_begin_57 (by decide) ?_
      refine tw_puti 51 X hP q1821 dX8_begin_58 hF (fun H locs σ2 hP hF => ?_)
      refine ph_aload_n (n := 0) X hl dX8_begin_61 rfl rfl ?_
      refine lv_iconst (v := 0) X.1 X.2.1 dX8_begin_62 (by decide) ?_
      refine tw_puti 52 X hP q1822 dX8_begin_63 hF (fun H locs σ3 hP hF => ?_)
      exact tw_vret X hP hF dX8_begin_66
    · have hF := hF.2 c14
      refine ph_aload_n (n := 0) X hl dX8_begin_8 rfl rfl ?_
      refine tw_getr 36 220 X hP q1806 dX8_begin_9 ?_
      refine ph_iload_n (n := 2) X hl dX8_begin_12 rfl rfl ?_
      refine ph_iload_n (n := 1) X hl dX8_begin_13 rfl rfl ?_
      obtain ⟨hr5, hF⟩ := hF
      refine tw_ast 20 (n := 7) X hP hr5 (k := x2.toNatClampNeg) rfl dX8_begin_14 hF (fun H locs σ4 hP hF => ?_)
      refine ph_aload_n (n := 0) X hl dX8_begin_15 rfl rfl ?_
      refine tw_getr 37 221 X hP q1807 dX8_begin_16 ?_
      refine ph_iload_n (n := 2) X hl dX8_begin_19 rfl rfl ?_
      refine lv_iconst (v := 0) X.1 X.2.1 dX8_begin_20 (by decide) ?_
      obtain ⟨hr7, hF⟩ := hF
      refine tw_ast 21 (n := 7) X hP hr7 (k := x2.toNatClampNeg) rfl dX8_begin_21 hF (fun H locs σ6 hP hF => ?_)
      refine ph_aload_n (n := 0) X hl dX8_begin_22 rfl rfl ?_
      refine tw_getr 38 222 X hP q1808 dX8_begin_23 ?_
      refine ph_iload_n (n := 2) X hl dX8_begin_26 rfl rfl ?_
      refine lv_sipush (v := (-10000)) X.1 X.2.1 dX8_begin_27 (by decide) ?_
      obtain ⟨hr9, hF⟩ := hF
      refine tw_ast 22 (n := 7) X hP hr9 (k := x2.toNatClampNeg) rfl dX8_begin_30 hF (fun H locs σ8 hP hF => ?_)
      refine ph_aload_n (n := 0) X hl dX8_begin_31 rfl rfl ?_
      refine tw_getr 39 223 X hP q1809 dX8_begin_32 ?_
      refine ph_iload_n (n := 2) X hl dX8_begin_35 rfl rfl ?_
      refine lv_iconst (v := 0) X.1 X.2.1 dX8_begin_36 (by decide) ?_
      obtain ⟨hr11, hF⟩ := hF
      refine tw_ast 23 (n := 7) X hP hr11 (k := x2.toNatClampNeg) rfl dX8_begin_37 hF (fun H locs σ10 hP hF => ?_)
      refine ph_aload_n (n := 0) X hl dX8_begin_38 rfl rfl ?_
      refine tw_getr 40 224 X hP q1810 dX8_begin_39 ?_
      refine ph_iload_n (n := 2) X hl dX8_begin_42 rfl rfl ?_
      refine lv_iconst (v := 0) X.1 X.2.1 dX8_begin_43 (by decide) ?_
      obtain ⟨hr13, hF⟩ := hF
      refine tw_ast 24 (n := 7) X hP hr13 (k := x2.toNatClampNeg) rfl dX8_begin_44 hF (fun H locs σ12 hP hF => ?_)
      refine ph_iinc (v := x2 + 1) (k := 2) X hl dX8_begin_45 rfl rfl (by decide) rfl (fun ls hl => ?_)
      refine lv_goto (tgt := 2) X.1 X.2.1 dX8_begin_48 (by decide) ?_
      exact ih _ _ _ _ _ _ hF hP (lh_sub hl [1, 2, 0] rfl)
set_option maxHeartbeats 2000000 in
theorem met_X8_begin (l : Launch) (D : va_G) (dA : Nat → ClassId) (ad : Nat → Nat) (σ : S) (sz : Nat) {a1 : Int32} {Q : S → Prop} (hF : P_X8_begin a1 σ Q) : CTv l yX8_begin cX8_begin 3 ({ frames := 0, cells := 0, slots := 0, locals := 0 } : Room) D dA ad σ sz [pX 200, iX a1] Q := by
  unfold P_X8_begin at hF
  refine ph_enter [pX 200, iX a1] (Qc := fun A => va_Qv (TQv Q) (CB D dA ad A) A) (by decide +kernel) (Nat.le_of_ble_eq_true rfl) ?_
  intro p e s m args below meth c A ls X hP hl hnm
  have hl : LH ad ls 3 [(0, pX 200), (1, iX a1)] := hl
  refine lv_iconst (v := 0) X.1 X.2.1 dX8_begin_0 (by decide) ?_
  refine ph_istore_n X hl dX8_begin_1 rfl (by decide) rfl (fun ls hl => ?_)
  obtain ⟨n9, hF⟩ := hF
  exact w_X8_begin_2 X n9 _ _ _ _ _ _ hF hP (lh_sub hl [1, 2, 0] rfl)
def P_X8_go_10 (Q : S → Prop) : Nat → Int32 → S → Prop
  | 0, _, _ => False
  | n + 1, x2, σ => ((x2 < (σ 0 50) → (∀ σ1, σ1 = up2 σ 0 50 x2 → (∀ σ2, σ2 = up2 σ1 0 51 (if (σ1 0 51) < (x2 - (σ1 0 52)) then x2 - (σ1 0 52) else σ1 0 51) → (Q σ2)))) ∧ (¬ x2 < (σ 0 50) → (P_X8_minuteNow σ (fun σ3 => (∀ σ5, σ5 = up2 σ3 0 50 ((σ3 0 50) + 1) → (P_X8_go_10 Q  n x2 σ5))))))
def P_X8_go (a1 : Int32) (a2 : Int32) (σ : S) (Q : S → Prop) : Prop := (P_X8_begin a1 σ (fun σ7 => (∀ σ9, σ9 = up2 σ7 0 50 1 → (∃ n9, P_X8_go_10 Q n9 a2 σ9))))
set_option maxHeartbeats 2000000 in
theorem w_X8_go_10 (X : CX p s m args c meth cX8_go 3 none RX8 D dA ad A) {Q : S → Prop} : ∀ (n : Nat) (x2 : Int32) (σ : S) (H : Heap) (locs : List Loc) (ls : Array Slot), P_X8_go_10 Q n x2 σ → PW D dA A s.heap ad (TH σ) H locs → LH ad ls 3 [(0, pX 200), (2, iX x2)] → WTv p l e ({ frames := 5, cells := 0, slots := 0, locals := 119 } : Room) s m args below meth c D dA ad A Q H locs (F0 m 10 ls []) := by
  intro n
  induction n with
  | zero =>
    intro x2 σ H locs ls hF
    exact hF.elim
  | succ n ih =>
    intro x2 σ H locs ls hF hP hl
    rw [P_X8_go_10] at hF
    refine ph_aload_n (n := 0) X hl dX8_go_10 rfl rfl ?_
    refine tw_geti 50 X hP q1820 dX8_go_11 ?_
    refine ph_iload_n (n := 1) X hl dX8_go_14 rfl rfl ?_
    refine lv_icmp_gt (tgt := 35) X.1 X.2.1 dX8_go_15 (by decide) (fun c6 => ?_) (fun c6 => ?_)
    · have hF := hF.1 c6
      refine ph_aload_n (n := 0) X hl dX8_go_35 rfl rfl ?_
      refine ph_iload_n (n := 1) X hl dX8_go_36 rfl rfl ?_
      refine tw_puti 50 X hP q1820 dX8_go_37 hF (fun H locs σ1 hP hF => ?_)
      refine ph_aload_n (n := 0) X hl dX8_go_40 rfl rfl ?_
      refine ph_aload_n (n := 0) X hl dX8_go_41 rfl rfl ?_
      refine tw_geti 51 X hP q1821 dX8_go_42 ?_
      refine ph_iload_n (n := 1) X hl dX8_go_45 rfl rfl ?_
      refine ph_aload_n (n := 0) X hl dX8_go_46 rfl rfl ?_
      refine tw_geti 52 X hP q1822 dX8_go_47 ?_
      refine lv_isub X.1 X.2.1 dX8_go_50 ?_
      refine va_mmax X.1 X.2.1 (X.2.2.1.trans hl.1.symm) X.2.2.2.1 (X.2.2.2.2.1 _ q2247) (X.2.2.2.2.1 _ q267) (X.2.2.2.2.1 _ q112) (X.2.2.2.2.1 _ q268) (Nat.le_of_ble_eq_true rfl) (Nat.le_trans (Nat.add_le_add_right (csr (cs0 (k := 0))) 13) (Nat.le_of_ble_eq_true rfl)) (Nat.le_refl _) (Nat.le_refl _) dX8_go_51 ?_
      refine tw_puti 51 X hP q1821 dX8_go_54 hF (fun H locs σ2 hP hF => ?_)
      exact tw_vret X hP hF dX8_go_57
    · have hF := hF.2 c6
      refine ph_aload_n (n := 0) X hl dX8_go_18 rfl rfl ?_
      refine tw_callVv [] X hP (met_X8_minuteNow l D dA ad _ _ hF) (cwV 0 X.2.2.2.2.1 (lw_V q2211 q2213 qs78 q126 q2214) rfl rfl rfl (by decide +kernel) ⟨Nat.le_of_ble_eq_true rfl, Nat.le_of_ble_eq_true rfl⟩) rfl hl (k8 := 0) (cs0 (k := 0)) (by decide) ⟨Nat.le_refl _, Nat.le_refl _⟩ dX8_go_19 rfl (fun σ3 H locs hF hP => ?_)
      refine ph_aload_n (n := 0) X hl dX8_go_22 rfl rfl ?_
      refine ph_dup_r X dX8_go_23 ?_
      refine tw_geti 50 X hP q1820 dX8_go_24 ?_
      refine lv_iconst (v := 1) X.1 X.2.1 dX8_go_27 (by decide) ?_
      refine lv_iadd X.1 X.2.1 dX8_go_28 ?_
      refine tw_puti 50 X hP q1820 dX8_go_29 hF (fun H locs σ5 hP hF => ?_)
      refine lv_goto (tgt := 10) X.1 X.2.1 dX8_go_32 (by decide) ?_
      exact ih _ _ _ _ _ hF hP hl
set_option maxHeartbeats 2000000 in
theorem met_X8_go (l : Launch) (D : va_G) (dA : Nat → ClassId) (ad : Nat → Nat) (σ : S) (sz : Nat) {a1 : Int32} {a2 : Int32} {Q : S → Prop} (hF : P_X8_go a1 a2 σ Q) : CTv l yX8_go cX8_go 3 ({ frames := 5, cells := 0, slots := 0, locals := 119 } : Room) D dA ad σ sz [pX 200, iX a1, iX a2] Q := by
  unfold P_X8_go at hF
  refine ph_enter [pX 200, iX a1, iX a2] (Qc := fun A => va_Qv (TQv Q) (CB D dA ad A) A) (by decide +kernel) (Nat.le_of_ble_eq_true rfl) ?_
  intro p e s m args below meth c A ls X hP hl hnm
  have hl : LH ad ls 3 [(0, pX 200), (1, iX a1), (2, iX a2)] := hl
  refine ph_aload_n (n := 0) X hl dX8_go_0 rfl rfl ?_
  refine ph_iload_n (n := 1) X hl dX8_go_1 rfl rfl ?_
  refine tw_callVv [iX a1] X hP (met_X8_begin l D dA ad _ _ hF) (cwV 1 X.2.2.2.2.1 (lw_V q2207 q2209 qs77 q126 q2210) rfl rfl rfl (by decide +kernel) ⟨Nat.le_of_ble_eq_true rfl, Nat.le_of_ble_eq_true rfl⟩) rfl hl (k8 := 0) (cs0 (k := 0)) (by decide) ⟨Nat.le_refl _, Nat.le_refl _⟩ dX8_go_2 rfl (fun σ7 H locs hF hP => ?_)
  refine ph_aload_n (n := 0) X hl dX8_go_5 rfl rfl ?_
  refine lv_iconst (v := 1) X.1 X.2.1 dX8_go_6 (by decide) ?_
  refine tw_puti 50 X hP q1820 dX8_go_7 hF (fun H locs σ9 hP hF => ?_)
  obtain ⟨n9, hF⟩ := hF
  exact w_X8_go_10 X n9 _ _ _ _ _ hF hP (lh_sub hl [0, 2] rfl)
def P_X8_allWoken_4 (Q : Int32 → S → Prop) : Nat → Int32 → Int32 → S → Prop
  | 0, _, _, _ => False
  | n + 1, x1, x2, σ => (((σ 3 0) ≤ x2 → (Q x1 σ)) ∧ (¬ (σ 3 0) ≤ x2 → (vp_in x2 7 ∧ (P_X8_allWoken_4 Q  n (x1 + (σ 23 x2.toNatClampNeg)) (x2 + 1) σ))))
def P_X8_allWoken  (σ : S) (Q : Int32 → S → Prop) : Prop := (∃ n9, P_X8_allWoken_4 Q n9 0 0 σ)
set_option maxHeartbeats 2000000 in
theorem w_X8_allWoken_4 (X : CX p s m args c meth cX8_allWoken 3 (some .int) RX8 D dA ad A) {Q : Int32 → S → Prop} : ∀ (n : Nat) (x1 : Int32) (x2 : Int32) (σ : S) (H : Heap) (locs : List Loc) (ls : Array Slot), P_X8_allWoken_4 Q n x1 x2 σ → PW D dA A s.heap ad (TH σ) H locs → LH ad ls 3 [(0, pX 200), (1, iX x1), (2, iX x2)] → WTi p l e ({ frames := 0, cells := 0, slots := 0, locals := 0 } : Room) s m args below meth c D dA ad A Q H locs (F0 m 4 ls []) := by
  intro n
  induction n with
  | zero =>
    intro x1 x2 σ H locs ls hF
    exact hF.elim
  | succ n ih =>
    intro x1 x2 σ H locs ls hF hP hl
    rw [P_X8_allWoken_4] at hF
    refine ph_iload_n (n := 2) X hl dX8_allWoken_4 rfl rfl ?_
    refine ph_aload_n (n := 0) X hl dX8_allWoken_5 rfl rfl ?_
    refine tw_getr 3 203 X hP q1773 dX8_allWoken_6 ?_
    refine lv_iconst (v := 0) X.1 X.2.1 dX8_allWoken_9 (by decide) ?_
    refine tw_ald 3 (n := 16) X hP (vin (by decide)) (k := 0) (by decide) dX8_allWoken_10 ?_
    refine lv_icmp_ge (tgt := 29) X.1 X.2.1 dX8_allWoken_11 (by decide) (fun c2 => ?_) (fun c2 => ?_)
    · have hF := hF.1 c2
      refine ph_iload_n (n := 1) X hl dX8_allWoken_29 rfl rfl ?_
      exact tw_iret X hP hF dX8_allWoken_30
    · have hF := hF.2 c2
      refine ph_iload_n (n := 1) X hl dX8_allWoken_14 rfl rfl ?_
      refine ph_aload_n (n := 0) X hl dX8_allWoken_15 rfl rfl ?_
      refine tw_getr 39 223 X hP q1809 dX8_allWoken_16 ?_
      refine ph_iload_n (n := 2) X hl dX8_allWoken_19 rfl rfl ?_
      obtain ⟨hr1, hF⟩ := hF
      refine tw_ald 23 (n := 7) X hP hr1 (k := x2.toNatClampNeg) rfl dX8_allWoken_20 ?_
      refine lv_iadd X.1 X.2.1 dX8_allWoken_21 ?_
      refine ph_istore_n X hl dX8_allWoken_22 rfl (by decide) rfl (fun ls hl => ?_)
      refine ph_iinc (v := x2 + 1) (k := 2) X hl dX8_allWoken_23 rfl rfl (by decide) rfl (fun ls hl => ?_)
      refine lv_goto (tgt := 4) X.1 X.2.1 dX8_allWoken_26 (by decide) ?_
      exact ih _ _ _ _ _ _ hF hP (lh_sub hl [2, 1, 0] rfl)
set_option maxHeartbeats 2000000 in
theorem met_X8_allWoken (l : Launch) (D : va_G) (dA : Nat → ClassId) (ad : Nat → Nat) (σ : S) (sz : Nat) {Q : Int32 → S → Prop} (hF : P_X8_allWoken  σ Q) : CTi l yX8_allWoken cX8_allWoken 3 .int ({ frames := 0, cells := 0, slots := 0, locals := 0 } : Room) D dA ad σ sz [pX 200] Q := by
  unfold P_X8_allWoken at hF
  refine ph_enter [pX 200] (Qc := fun A => va_Qi (TQi Q) (CB D dA ad A) A) (by decide +kernel) (Nat.le_of_ble_eq_true rfl) ?_
  intro p e s m args below meth c A ls X hP hl hnm
  have hl : LH ad ls 3 [(0, pX 200)] := hl
  refine lv_iconst (v := 0) X.1 X.2.1 dX8_allWoken_0 (by decide) ?_
  refine ph_istore_n X hl dX8_allWoken_1 rfl (by decide) rfl (fun ls hl => ?_)
  refine lv_iconst (v := 0) X.1 X.2.1 dX8_allWoken_2 (by decide) ?_
  refine ph_istore_n X hl dX8_allWoken_3 rfl (by decide) rfl (fun ls hl => ?_)
  obtain ⟨n9, hF⟩ := hF
  exact w_X8_allWoken_4 X n9 _ _ _ _ _ _ hF hP (lh_sub hl [2, 1, 0] rfl)
def P_X8_nightNow  (σ : S) (Q : S → Prop) : Prop := (P_X8_set σ (fun σ1 => (P_X8_go (σ1 0 26) (σ1 3 3) σ1 (fun σ3 => (Q σ3)))))
set_option maxHeartbeats 2000000 in
theorem met_X8_nightNow (l : Launch) (D : va_G) (dA : Nat → ClassId) (ad : Nat → Nat) (σ : S) (sz : Nat) {Q : S → Prop} (hF : P_X8_nightNow  σ Q) : CTv l yX8_nightNow cX8_nightNow 1 ({ frames := 6, cells := 0, slots := 0, locals := 141 } : Room) D dA ad σ sz [pX 200] Q := by
  unfold P_X8_nightNow at hF
  refine ph_enter [pX 200] (Qc := fun A => va_Qv (TQv Q) (CB D dA ad A) A) (by decide +kernel) (Nat.le_of_ble_eq_true rfl) ?_
  intro p e s m args below meth c A ls X hP hl hnm
  have hl : LH ad ls 1 [(0, pX 200)] := hl
  refine ph_aload_n (n := 0) X hl dX8_nightNow_0 rfl rfl ?_
  refine tw_callVv [] X hP (met_X8_set l D dA ad _ _ hF) (cwV 0 X.2.2.2.2.1 (lw_V q2128 q2130 qs67 q126 q2131) rfl rfl rfl (by decide +kernel) ⟨Nat.le_of_ble_eq_true rfl, Nat.le_of_ble_eq_true rfl⟩) rfl hl (k8 := 0) (cs0 (k := 0)) (by decide) ⟨Nat.le_refl _, Nat.le_refl _⟩ dX8_nightNow_1 rfl (fun σ1 H locs hF hP => ?_)
  refine ph_aload_n (n := 0) X hl dX8_nightNow_4 rfl rfl ?_
  refine ph_aload_n (n := 0) X hl dX8_nightNow_5 rfl rfl ?_
  refine tw_geti 26 X hP q1796 dX8_nightNow_6 ?_
  refine ph_aload_n (n := 0) X hl dX8_nightNow_9 rfl rfl ?_
  refine tw_getr 3 203 X hP q1773 dX8_nightNow_10 ?_
  refine lv_iconst (v := 3) X.1 X.2.1 dX8_nightNow_13 (by decide) ?_
  refine tw_ald 3 (n := 16) X hP (vin (by decide)) (k := 3) (by decide) dX8_nightNow_14 ?_
  refine tw_callVv [iX (σ1 0 26), iX (σ1 3 3)] X hP (met_X8_go l D dA ad _ _ hF) (cwV 2 X.2.2.2.2.1 (lw_V q2203 q2205 qs76 q126 q2206) rfl rfl rfl (by decide +kernel) ⟨Nat.le_of_ble_eq_true rfl, Nat.le_of_ble_eq_true rfl⟩) rfl hl (k8 := 0) (cs0 (k := 0)) (by decide) ⟨Nat.le_refl _, Nat.le_refl _⟩ dX8_nightNow_15 rfl (fun σ3 H locs hF hP => ?_)
  exact tw_vret X hP hF dX8_nightNow_18
def P_X8_worst_4 (Q : Int32 → S → Prop) : Nat → Int32 → Int32 → S → Prop
  | 0, _, _, _ => False
  | n + 1, x1, x2, σ => (((σ 3 0) ≤ x2 → (Q x1 σ)) ∧ (¬ (σ 3 0) ≤ x2 → ((x1 = (-1) → (P_X8_worst_4 Q  n x2 (x2 + 1) σ)) ∧ (¬ x1 = (-1) → (vp_in x2 7 ∧ (vp_in x1 7 ∧ (((σ 23 x2.toNatClampNeg) ≤ (σ 23 x1.toNatClampNeg) → (P_X8_worst_4 Q  n x1 (x2 + 1) σ)) ∧ (¬ (σ 23 x2.toNatClampNeg) ≤ (σ 23 x1.toNatClampNeg) → (P_X8_worst_4 Q  n x2 (x2 + 1) σ)))))))))
def P_X8_worst  (σ : S) (Q : Int32 → S → Prop) : Prop := (∃ n9, P_X8_worst_4 Q n9 (-1) 0 σ)
set_option maxHeartbeats 2000000 in
theorem w_X8_worst_4 (X : CX p s m args c meth cX8_worst 3 (some .int) RX8 D dA ad A) {Q : Int32 → S → Prop} : ∀ (n : Nat) (x1 : Int32) (x2 : Int32) (σ : S) (H : Heap) (locs : List Loc) (ls : Array Slot), P_X8_worst_4 Q n x1 x2 σ → PW D dA A s.heap ad (TH σ) H locs → LH ad ls 3 [(0, pX 200), (1, iX x1), (2, iX x2)] → WTi p l e ({ frames := 0, cells := 0, slots := 0, locals := 0 } : Room) s m args below meth c D dA ad A Q H locs (F0 m 4 ls []) := by
  intro n
  induction n with
  | zero =>
    intro x1 x2 σ H locs ls hF
    exact hF.elim
  | succ n ih =>
    intro x1 x2 σ H locs ls hF hP hl
    rw [P_X8_worst_4] at hF
    refine ph_iload_n (n := 2) X hl dX8_worst_4 rfl rfl ?_
    refine ph_aload_n (n := 0) X hl dX8_worst_5 rfl rfl ?_
    refine tw_getr 3 203 X hP q1773 dX8_worst_6 ?_
    refine lv_iconst (v := 0) X.1 X.2.1 dX8_worst_9 (by decide) ?_
    refine tw_ald 3 (n := 16) X hP (vin (by decide)) (k := 0) (by decide) dX8_worst_10 ?_
    refine lv_icmp_ge (tgt := 42) X.1 X.2.1 dX8_worst_11 (by decide) (fun c5 => ?_) (fun c5 => ?_)
    · have hF := hF.1 c5
      refine ph_iload_n (n := 1) X hl dX8_worst_42 rfl rfl ?_
      exact tw_iret X hP hF dX8_worst_43
    · have hF := hF.2 c5
      refine ph_iload_n (n := 1) X hl dX8_worst_14 rfl rfl ?_
      refine lv_iconst (v := (-1)) X.1 X.2.1 dX8_worst_15 (by decide) ?_
      refine lv_icmp_eq (tgt := 34) X.1 X.2.1 dX8_worst_16 (by decide) (fun c4 => ?_) (fun c4 => ?_)
      · have hF := hF.1 c4
        refine ph_iload_n (n := 2) X hl dX8_worst_34 rfl rfl ?_
        refine ph_istore_n X hl dX8_worst_35 rfl (by decide) rfl (fun ls hl => ?_)
        refine ph_iinc (v := x2 + 1) (k := 2) X hl dX8_worst_36 rfl rfl (by decide) rfl (fun ls hl => ?_)
        refine lv_goto (tgt := 4) X.1 X.2.1 dX8_worst_39 (by decide) ?_
        exact ih _ _ _ _ _ _ hF hP (lh_sub hl [2, 1, 0] rfl)
      · have hF := hF.2 c4
        refine ph_aload_n (n := 0) X hl dX8_worst_19 rfl rfl ?_
        refine tw_getr 39 223 X hP q1809 dX8_worst_20 ?_
        refine ph_iload_n (n := 2) X hl dX8_worst_23 rfl rfl ?_
        obtain ⟨hr1, hF⟩ := hF
        refine tw_ald 23 (n := 7) X hP hr1 (k := x2.toNatClampNeg) rfl dX8_worst_24 ?_
        refine ph_aload_n (n := 0) X hl dX8_worst_25 rfl rfl ?_
        refine tw_getr 39 223 X hP q1809 dX8_worst_26 ?_
        refine ph_iload_n (n := 1) X hl dX8_worst_29 rfl rfl ?_
        obtain ⟨hr2, hF⟩ := hF
        refine tw_ald 23 (n := 7) X hP hr2 (k := x1.toNatClampNeg) rfl dX8_worst_30 ?_
        refine lv_icmp_le (tgt := 36) X.1 X.2.1 dX8_worst_31 (by decide) (fun c3 => ?_) (fun c3 => ?_)
        · have hF := hF.1 c3
          refine ph_iinc (v := x2 + 1) (k := 2) X hl dX8_worst_36 rfl rfl (by decide) rfl (fun ls hl => ?_)
          refine lv_goto (tgt := 4) X.1 X.2.1 dX8_worst_39 (by decide) ?_
          exact ih _ _ _ _ _ _ hF hP (lh_sub hl [1, 2, 0] rfl)
        · have hF := hF.2 c3
          refine ph_iload_n (n := 2) X hl dX8_worst_34 rfl rfl ?_
          refine ph_istore_n X hl dX8_worst_35 rfl (by decide) rfl (fun ls hl => ?_)
          refine ph_iinc (v := x2 + 1) (k := 2) X hl dX8_worst_36 rfl rfl (by decide) rfl (fun ls hl => ?_)
          refine lv_goto (tgt := 4) X.1 X.2.1 dX8_worst_39 (by decide) ?_
          exact ih _ _ _ _ _ _ hF hP (lh_sub hl [2, 1, 0] rfl)
set_option maxHeartbeats 2000000 in
theorem met_X8_worst (l : Launch) (D : va_G) (dA : Nat → ClassId) (ad : Nat → Nat) (σ : S) (sz : Nat) {Q : Int32 → S → Prop} (hF : P_X8_worst  σ Q) : CTi l yX8_worst cX8_worst 3 .int ({ frames := 0, cells := 0, slots := 0, locals := 0 } : Room) D dA ad σ sz [pX 200] Q := by
  unfold P_X8_worst at hF
  refine ph_enter [pX 200] (Qc := fun A => va_Qi (TQi Q) (CB D dA ad A) A) (by decide +kernel) (Nat.le_of_ble_eq_true rfl) ?_
  intro p e s m args below meth c A ls X hP hl hnm
  have hl : LH ad ls 3 [(0, pX 200)] := hl
  refine lv_iconst (v := (-1)) X.1 X.2.1 dX8_worst_0 (by decide) ?_
  refine ph_istore_n X hl dX8_worst_1 rfl (by decide) rfl (fun ls hl => ?_)
  refine lv_iconst (v := 0) X.1 X.2.1 dX8_worst_2 (by decide) ?_
  refine ph_istore_n X hl dX8_worst_3 rfl (by decide) rfl (fun ls hl => ?_)
  obtain ⟨n9, hF⟩ := hF
  exact w_X8_worst_4 X n9 _ _ _ _ _ _ hF hP (lh_sub hl [2, 1, 0] rfl)
def P_X8_night (a1 : Int32) (σ : S) (Q : Int32 → S → Prop) : Prop := (∀ σ1, σ1 = up2 σ 0 2 0 → (P_X8_isIn a1.toInt64 0 3 σ1 (fun r3 σ2 => ((¬ r3 = 0 → (P_X8_nightNow σ2 (fun σ4 => ((¬ a1 = 0 → ((¬ a1 = 1 → ((¬ a1 = 2 → (P_X8_worst σ4 (fun r7 σ6 => (Q r7 σ6)))) ∧ (a1 = 2 → (Q (σ4 0 51) σ4)))) ∧ (a1 = 1 → (P_X8_allWoken σ4 (fun r10 σ9 => (Q r10 σ9)))))) ∧ (a1 = 0 → (Q (σ4 0 49) σ4)))))) ∧ (r3 = 0 → (P_X8_fail 1 σ2 (fun r14 σ13 => (Q r14 σ13))))))))
set_option maxHeartbeats 2000000 in
theorem met_X8_night (l : Launch) (D : va_G) (dA : Nat → ClassId) (ad : Nat → Nat) (σ : S) (sz : Nat) {a1 : Int32} {Q : Int32 → S → Prop} (hF : P_X8_night a1 σ Q) : CTi l yX8_night cX8_night 2 .int ({ frames := 7, cells := 0, slots := 0, locals := 161 } : Room) D dA ad σ sz [pX 200, iX a1] Q := by
  unfold P_X8_night at hF
  refine ph_enter [pX 200, iX a1] (Qc := fun A => va_Qi (TQi Q) (CB D dA ad A) A) (by decide +kernel) (Nat.le_of_ble_eq_true rfl) ?_
  intro p e s m args below meth c A ls X hP hl hnm
  have hl : LH ad ls 2 [(0, pX 200), (1, iX a1)] := hl
  refine ph_aload_n (n := 0) X hl dX8_night_0 rfl rfl ?_
  refine lv_iconst (v := 0) X.1 X.2.1 dX8_night_1 (by decide) ?_
  refine tw_puti 2 X hP q1772 dX8_night_2 hF (fun H locs σ1 hP hF => ?_)
  refine ph_iload_n (n := 1) X hl dX8_night_5 rfl rfl ?_
  refine lv_i2l X.1 X.2.1 dX8_night_6 rfl ?_
  refine lv_lconst (v := 0) X.1 X.2.1 dX8_night_7 (by decide) ?_
  refine lv_ldc2 (v := 3) X.1 X.2.1 X.2.2.2.1 (X.2.2.2.2.1 _ q2198) dX8_night_8 ?_
  refine tw_callSi [lX a1.toInt64, lX 0, lX 3] X hP (met_X8_isIn l D dA ad _ _ hF) (va_cwS 3 X.2.2.2.2.1 (lw_S q2144 q2145 q126 q2146) rfl rfl rfl (by decide +kernel) ⟨Nat.le_of_ble_eq_true rfl, Nat.le_of_ble_eq_true rfl⟩) rfl hl (k8 := 0) (cs0 (k := 0)) (by decide) ⟨Nat.le_refl _, Nat.le_refl _⟩ dX8_night_11 rfl (fun r3 σ2 H locs hF hP => ?_)
  refine lv_if_ne (tgt := 23) X.1 X.2.1 dX8_night_14 (by decide) (fun c15 => ?_) (fun c15 => ?_)
  · have hF := hF.1 c15
    refine ph_aload_n (n := 0) X hl dX8_night_23 rfl rfl ?_
    refine tw_callVv [] X hP (met_X8_nightNow l D dA ad _ _ hF) (cwV 0 X.2.2.2.2.1 (lw_V q2199 q2201 qs75 q126 q2202) rfl rfl rfl (by decide +kernel) ⟨Nat.le_of_ble_eq_true rfl, Nat.le_of_ble_eq_true rfl⟩) rfl hl (k8 := 0) (cs0 (k := 0)) (by decide) ⟨Nat.le_refl _, Nat.le_refl _⟩ dX8_night_24 rfl (fun σ4 H locs hF hP => ?_)
    refine ph_iload_n (n := 1) X hl dX8_night_27 rfl rfl ?_
    refine lv_if_ne (tgt := 38) X.1 X.2.1 dX8_night_28 (by decide) (fun c12 => ?_) (fun c12 => ?_)
    · have hF := hF.1 c12
      refine ph_iload_n (n := 1) X hl dX8_night_38 rfl rfl ?_
      refine lv_iconst (v := 1) X.1 X.2.1 dX8_night_39 (by decide) ?_
      refine lv_icmp_ne (tgt := 50) X.1 X.2.1 dX8_night_40 (by decide) (fun c11 => ?_) (fun c11 => ?_)
      · have hF := hF.1 c11
        refine ph_iload_n (n := 1) X hl dX8_night_50 rfl rfl ?_
        refine lv_iconst (v := 2) X.1 X.2.1 dX8_night_51 (by decide) ?_
        refine lv_icmp_ne (tgt := 62) X.1 X.2.1 dX8_night_52 (by decide) (fun c8 => ?_) (fun c8 => ?_)
        · have hF := hF.1 c8
          refine ph_aload_n (n := 0) X hl dX8_night_62 rfl rfl ?_
          refine tw_callVi [] X hP (met_X8_worst l D dA ad _ _ hF) (cwV 0 X.2.2.2.2.1 (lw_V q2260 q2262 qs89 q126 q2263) rfl rfl rfl (by decide +kernel) ⟨Nat.le_of_ble_eq_true rfl, Nat.le_of_ble_eq_true rfl⟩) rfl hl (k8 := 0) (cs0 (k := 0)) (by decide) ⟨Nat.le_refl _, Nat.le_refl _⟩ dX8_night_63 rfl (fun r7 σ6 H locs hF hP => ?_)
          exact tw_iret X hP hF dX8_night_66
        · have hF := hF.2 c8
          refine ph_aload_n (n := 0) X hl dX8_night_55 rfl rfl ?_
          refine tw_geti 51 X hP q1821 dX8_night_56 ?_
          refine lv_goto (tgt := 66) X.1 X.2.1 dX8_night_59 (by decide) ?_
          exact tw_iret X hP hF dX8_night_66
      · have hF := hF.2 c11
        refine ph_aload_n (n := 0) X hl dX8_night_43 rfl rfl ?_
        refine tw_callVi [] X hP (met_X8_allWoken l D dA ad _ _ hF) (cwV 0 X.2.2.2.2.1 (lw_V q2256 q2258 qs88 q126 q2259) rfl rfl rfl (by decide +kernel) ⟨Nat.le_of_ble_eq_true rfl, Nat.le_of_ble_eq_true rfl⟩) rfl hl (k8 := 0) (cs0 (k := 0)) (by decide) ⟨Nat.le_refl _, Nat.le_refl _⟩ dX8_night_44 rfl (fun r10 σ9 H locs hF hP => ?_)
        refine lv_goto (tgt := 66) X.1 X.2.1 dX8_night_47 (by decide) ?_
        exact tw_iret X hP hF dX8_night_66
    · have hF := hF.2 c12
      refine ph_aload_n (n := 0) X hl dX8_night_31 rfl rfl ?_
      refine tw_geti 49 X hP q1819 dX8_night_32 ?_
      refine lv_goto (tgt := 66) X.1 X.2.1 dX8_night_35 (by decide) ?_
      exact tw_iret X hP hF dX8_night_66
  · have hF := hF.2 c15
    refine ph_aload_n (n := 0) X hl dX8_night_17 rfl rfl ?_
    refine lv_iconst (v := 1) X.1 X.2.1 dX8_night_18 (by decide) ?_
    refine tw_callVi [iX 1] X hP (met_X8_fail l D dA ad _ _ hF) (cwV 1 X.2.2.2.2.1 (lw_V q2002 q2004 qs44 q126 q2005) rfl rfl rfl (by decide +kernel) ⟨Nat.le_of_ble_eq_true rfl, Nat.le_of_ble_eq_true rfl⟩) rfl hl (k8 := 0) (cs0 (k := 0)) (by decide) ⟨Nat.le_refl _, Nat.le_refl _⟩ dX8_night_19 rfl (fun r14 σ13 H locs hF hP => ?_)
    exact tw_iret X hP hF dX8_night_22
def P_X8_woken (a1 : Int32) (a2 : Int32) (σ : S) (Q : Int32 → S → Prop) : Prop := (∀ σ1, σ1 = up2 σ 0 2 0 → (P_X8_isSleeper a1 σ1 (fun r3 σ2 => ((r3 = 0 → (P_X8_fail 1 σ2 (fun r5 σ4 => (Q r5 σ4)))) ∧ (¬ r3 = 0 → ((a2 < 0 → (P_X8_fail 1 σ2 (fun r7 σ6 => (Q r7 σ6)))) ∧ (¬ a2 < 0 → ((a2 ≤ 1 → (P_X8_nightNow σ2 (fun σ8 => ((¬ a2 = 0 → (vp_in a1 7 ∧ (Q (σ8 24 a1.toNatClampNeg) σ8))) ∧ (a2 = 0 → (vp_in a1 7 ∧ (Q (σ8 23 a1.toNatClampNeg) σ8))))))) ∧ (¬ a2 ≤ 1 → (P_X8_fail 1 σ2 (fun r14 σ13 => (Q r14 σ13))))))))))))
set_option maxHeartbeats 2000000 in
theorem met_X8_woken (l : Launch) (D : va_G) (dA : Nat → ClassId) (ad : Nat → Nat) (σ : S) (sz : Nat) {a1 : Int32} {a2 : Int32} {Q : Int32 → S → Prop} (hF : P_X8_woken a1 a2 σ Q) : CTi l yX8_woken cX8_woken 3 .int ({ frames := 7, cells := 0, slots := 0, locals := 161 } : Room) D dA ad σ sz [pX 200, iX a1, iX a2] Q := by
  unfold P_X8_woken at hF
  refine ph_enter [pX 200, iX a1, iX a2] (Qc := fun A => va_Qi (TQi Q) (CB D dA ad A) A) (by decide +kernel) (Nat.le_of_ble_eq_true rfl) ?_
  intro p e s m args below meth c A ls X hP hl hnm
  have hl : LH ad ls 3 [(0, pX 200), (1, iX a1), (2, iX a2)] := hl
  refine ph_aload_n (n := 0) X hl dX8_woken_0 rfl rfl ?_
  refine lv_iconst (v := 0) X.1 X.2.1 dX8_woken_1 (by decide) ?_
  refine tw_puti 2 X hP q1772 dX8_woken_2 hF (fun H locs σ1 hP hF => ?_)
  refine ph_aload_n (n := 0) X hl dX8_woken_5 rfl rfl ?_
  refine ph_iload_n (n := 1) X hl dX8_woken_6 rfl rfl ?_
  refine tw_callVi [iX a1] X hP (met_X8_isSleeper l D dA ad _ _ hF) (cwV 1 X.2.2.2.2.1 (lw_V q2140 q2142 qs69 q126 q2143) rfl rfl rfl (by decide +kernel) ⟨Nat.le_of_ble_eq_true rfl, Nat.le_of_ble_eq_true rfl⟩) rfl hl (k8 := 0) (cs0 (k := 0)) (by decide) ⟨Nat.le_refl _, Nat.le_refl _⟩ dX8_woken_7 rfl (fun r3 σ2 H locs hF hP => ?_)
  refine lv_if_eq (tgt := 22) X.1 X.2.1 dX8_woken_10 (by decide) (fun c17 => ?_) (fun c17 => ?_)
  · have hF := hF.1 c17
    refine ph_aload_n (n := 0) X hl dX8_woken_22 rfl rfl ?_
    refine lv_iconst (v := 1) X.1 X.2.1 dX8_woken_23 (by decide) ?_
    refine tw_callVi [iX 1] X hP (met_X8_fail l D dA ad _ _ hF) (cwV 1 X.2.2.2.2.1 (lw_V q2002 q2004 qs44 q126 q2005) rfl rfl rfl (by decide +kernel) ⟨Nat.le_of_ble_eq_true rfl, Nat.le_of_ble_eq_true rfl⟩) rfl hl (k8 := 0) (cs0 (k := 0)) (by decide) ⟨Nat.le_refl _, Nat.le_refl _⟩ dX8_woken_24 rfl (fun r5 σ4 H locs hF hP => ?_)
    exact tw_iret X hP hF dX8_woken_27
  · have hF := hF.2 c17
    refine ph_iload_n (n := 2) X hl dX8_woken_13 rfl rfl ?_
    refine lv_if_lt (tgt := 22) X.1 X.2.1 dX8_woken_14 (by decide) (fun c16 => ?_) (fun c16 => ?_)
    · have hF := hF.1 c16
      refine ph_aload_n (n := 0) X hl dX8_woken_22 rfl rfl ?_
      refine lv_iconst (v := 1) X.1 X.2.1 dX8_woken_23 (by decide) ?_
      refine tw_callVi [iX 1] X hP (met_X8_fail l D dA ad _ _ hF) (cwV 1 X.2.2.2.2.1 (lw_V q2002 q2004 qs44 q126 q2005) rfl rfl rfl (by decide +kernel) ⟨Nat.le_of_ble_eq_true rfl, Nat.le_of_ble_eq_true rfl⟩) rfl hl (k8 := 0) (cs0 (k := 0)) (by decide) ⟨Nat.le_refl _, Nat.le_refl _⟩ dX8_woken_24 rfl (fun r7 σ6 H locs hF hP => ?_)
      exact tw_iret X hP hF dX8_woken_27
    · have hF := hF.2 c16
      refine ph_iload_n (n := 2) X hl dX8_woken_17 rfl rfl ?_
      refine lv_iconst (v := 1) X.1 X.2.1 dX8_woken_18 (by decide) ?_
      refine lv_icmp_le (tgt := 28) X.1 X.2.1 dX8_woken_19 (by decide) (fun c15 => ?_) (fun c15 => ?_)
      · have hF := hF.1 c15
        refine ph_aload_n (n := 0) X hl dX8_woken_28 rfl rfl ?_
        refine tw_callVv [] X hP (met_X8_nightNow l D dA ad _ _ hF) (cwV 0 X.2.2.2.2.1 (lw_V q2199 q2201 qs75 q126 q2202) rfl rfl rfl (by decide +kernel) ⟨Nat.le_of_ble_eq_true rfl, Nat.le_of_ble_eq_true rfl⟩) rfl hl (k8 := 0) (cs0 (k := 0)) (by decide) ⟨Nat.le_refl _, Nat.le_refl _⟩ dX8_woken_29 rfl (fun σ8 H locs hF hP => ?_)
        refine ph_iload_n (n := 2) X hl dX8_woken_32 rfl rfl ?_
        refine lv_if_ne (tgt := 45) X.1 X.2.1 dX8_woken_33 (by decide) (fun c12 => ?_) (fun c12 => ?_)
        · have hF := hF.1 c12
          refine ph_aload_n (n := 0) X hl dX8_woken_45 rfl rfl ?_
          refine tw_getr 40 224 X hP q1810 dX8_woken_46 ?_
          refine ph_iload_n (n := 1) X hl dX8_woken_49 rfl rfl ?_
          obtain ⟨hr10, hF⟩ := hF
          refine tw_ald 24 (n := 7) X hP hr10 (k := a1.toNatClampNeg) rfl dX8_woken_50 ?_
          exact tw_iret X hP hF dX8_woken_51
        · have hF := hF.2 c12
          refine ph_aload_n (n := 0) X hl dX8_woken_36 rfl rfl ?_
          refine tw_getr 39 223 X hP q1809 dX8_woken_37 ?_
          refine ph_iload_n (n := 1) X hl dX8_woken_40 rfl rfl ?_
          obtain ⟨hr11, hF⟩ := hF
          refine tw_ald 23 (n := 7) X hP hr11 (k := a1.toNatClampNeg) rfl dX8_woken_41 ?_
          refine lv_goto (tgt := 51) X.1 X.2.1 dX8_woken_42 (by decide) ?_
          exact tw_iret X hP hF dX8_woken_51
      · have hF := hF.2 c15
        refine ph_aload_n (n := 0) X hl dX8_woken_22 rfl rfl ?_
        refine lv_iconst (v := 1) X.1 X.2.1 dX8_woken_23 (by decide) ?_
        refine tw_callVi [iX 1] X hP (met_X8_fail l D dA ad _ _ hF) (cwV 1 X.2.2.2.2.1 (lw_V q2002 q2004 qs44 q126 q2005) rfl rfl rfl (by decide +kernel) ⟨Nat.le_of_ble_eq_true rfl, Nat.le_of_ble_eq_true rfl⟩) rfl hl (k8 := 0) (cs0 (k := 0)) (by decide) ⟨Nat.le_refl _, Nat.le_refl _⟩ dX8_woken_24 rfl (fun r14 σ13 H locs hF hP => ?_)
        exact tw_iret X hP hF dX8_woken_27
def P_X8_lies (a1 : Int32) (a2 : Int32) (a3 : Int32) (σ : S) (Q : Int32 → S → Prop) : Prop := (∀ σ1, σ1 = up2 σ 0 2 0 → (P_X8_isSleeper a1 σ1 (fun r3 σ2 => ((r3 = 0 → (P_X8_fail 1 σ2 (fun r5 σ4 => (Q r5 σ4)))) ∧ (¬ r3 = 0 → ((a3 < 0 → (P_X8_fail 1 σ2 (fun r7 σ6 => (Q r7 σ6)))) ∧ (¬ a3 < 0 → ((a3 ≤ 1 → (P_X8_isIn a2.toInt64 0 ((σ2 3 3).toInt64) σ2 (fun r9 σ8 => ((¬ r9 = 0 → (P_X8_set σ8 (fun σ10 => (P_X8_go (σ10 0 26) a2 σ10 (fun σ12 => ((¬ a3 = 0 → (P_X8_isAwake a1 σ12 (fun r15 σ14 => ((r15 = 0 → (Q 0 σ14)) ∧ (¬ r15 = 0 → (Q 1 σ14)))))) ∧ (a3 = 0 → (vp_in a1 7 ∧ (Q (σ12 20 a1.toNatClampNeg) σ12))))))))) ∧ (r9 = 0 → (P_X8_fail 2 σ8 (fun r20 σ19 => (Q r20 σ19)))))))) ∧ (¬ a3 ≤ 1 → (P_X8_fail 1 σ2 (fun r23 σ22 => (Q r23 σ22))))))))))))
set_option maxHeartbeats 2000000 in
theorem met_X8_lies (l : Launch) (D : va_G) (dA : Nat → ClassId) (ad : Nat → Nat) (σ : S) (sz : Nat) {a1 : Int32} {a2 : Int32} {a3 : Int32} {Q : Int32 → S → Prop} (hF : P_X8_lies a1 a2 a3 σ Q) : CTi l yX8_lies cX8_lies 4 .int ({ frames := 6, cells := 0, slots := 0, locals := 141 } : Room) D dA ad σ sz [pX 200, iX a1, iX a2, iX a3] Q := by
  unfold P_X8_lies at hF
  refine ph_enter [pX 200, iX a1, iX a2, iX a3] (Qc := fun A => va_Qi (TQi Q) (CB D dA ad A) A) (by decide +kernel) (Nat.le_of_ble_eq_true rfl) ?_
  intro p e s m args below meth c A ls X hP hl hnm
  have hl : LH ad ls 4 [(0, pX 200), (1, iX a1), (2, iX a2), (3, iX a3)] := hl
  refine ph_aload_n (n := 0) X hl dX8_lies_0 rfl rfl ?_
  refine lv_iconst (v := 0) X.1 X.2.1 dX8_lies_1 (by decide) ?_
  refine tw_puti 2 X hP q1772 dX8_lies_2 hF (fun H locs σ1 hP hF => ?_)
  refine ph_aload_n (n := 0) X hl dX8_lies_5 rfl rfl ?_
  refine ph_iload_n (n := 1) X hl dX8_lies_6 rfl rfl ?_
  refine tw_callVi [iX a1] X hP (met_X8_isSleeper l D dA ad _ _ hF) (cwV 1 X.2.2.2.2.1 (lw_V q2140 q2142 qs69 q126 q2143) rfl rfl rfl (by decide +kernel) ⟨Nat.le_of_ble_eq_true rfl, Nat.le_of_ble_eq_true rfl⟩) rfl hl (k8 := 0) (cs0 (k := 0)) (by decide) ⟨Nat.le_refl _, Nat.le_refl _⟩ dX8_lies_7 rfl (fun r3 σ2 H locs hF hP => ?_)
  refine lv_if_eq (tgt := 22) X.1 X.2.1 dX8_lies_10 (by decide) (fun c26 => ?_) (fun c26 => ?_)
  · have hF := hF.1 c26
    refine ph_aload_n (n := 0) X hl dX8_lies_22 rfl rfl ?_
    refine lv_iconst (v := 1) X.1 X.2.1 dX8_lies_23 (by decide) ?_
    refine tw_callVi [iX 1] X hP (met_X8_fail l D dA ad _ _ hF) (cwV 1 X.2.2.2.2.1 (lw_V q2002 q2004 qs44 q126 q2005) rfl rfl rfl (by decide +kernel) ⟨Nat.le_of_ble_eq_true rfl, Nat.le_of_ble_eq_true rfl⟩) rfl hl (k8 := 0) (cs0 (k := 0)) (by decide) ⟨Nat.le_refl _, Nat.le_refl _⟩ dX8_lies_24 rfl (fun r5 σ4 H locs hF hP => ?_)
    exact tw_iret X hP hF dX8_lies_27
  · have hF := hF.2 c26
    refine ph_iload_n (n := 3) X hl dX8_lies_13 rfl rfl ?_
    refine lv_if_lt (tgt := 22) X.1 X.2.1 dX8_lies_14 (by decide) (fun c25 => ?_) (fun c25 => ?_)
    · have hF := hF.1 c25
      refine ph_aload_n (n := 0) X hl dX8_lies_22 rfl rfl ?_
      refine lv_iconst (v := 1) X.1 X.2.1 dX8_lies_23 (by decide) ?_
      refine tw_callVi [iX 1] X hP (met_X8_fail l D dA ad _ _ hF) (cwV 1 X.2.2.2.2.1 (lw_V q2002 q2004 qs44 q126 q2005) rfl rfl rfl (by decide +kernel) ⟨Nat.le_of_ble_eq_true rfl, Nat.le_of_ble_eq_true rfl⟩) rfl hl (k8 := 0) (cs0 (k := 0)) (by decide) ⟨Nat.le_refl _, Nat.le_refl _⟩ dX8_lies_24 rfl (fun r7 σ6 H locs hF hP => ?_)
      exact tw_iret X hP hF dX8_lies_27
    · have hF := hF.2 c25
      refine ph_iload_n (n := 3) X hl dX8_lies_17 rfl rfl ?_
      refine lv_iconst (v := 1) X.1 X.2.1 dX8_lies_18 (by decide) ?_
      refine lv_icmp_le (tgt := 28) X.1 X.2.1 dX8_lies_19 (by decide) (fun c24 => ?_) (fun c24 => ?_)
      · have hF := hF.1 c24
        refine ph_iload_n (n := 2) X hl dX8_lies_28 rfl rfl ?_
        refine lv_i2l X.1 X.2.1 dX8_lies_29 rfl ?_
        refine lv_lconst (v := 0) X.1 X.2.1 dX8_lies_30 (by decide) ?_
        refine ph_aload_n (n := 0) X hl dX8_lies_31 rfl rfl ?_
        refine tw_getr 3 203 X hP q1773 dX8_lies_32 ?_
        refine lv_iconst (v := 3) X.1 X.2.1 dX8_lies_35 (by decide) ?_
        refine tw_ald 3 (n := 16) X hP (vin (by decide)) (k := 3) (by decide) dX8_lies_36 ?_
        refine lv_i2l X.1 X.2.1 dX8_lies_37 rfl ?_
        refine tw_callSi [lX a2.toInt64, lX 0, lX ((σ2 3 3).toInt64)] X hP (met_X8_isIn l D dA ad _ _ hF) (va_cwS 3 X.2.2.2.2.1 (lw_S q2144 q2145 q126 q2146) rfl rfl rfl (by decide +kernel) ⟨Nat.le_of_ble_eq_true rfl, Nat.le_of_ble_eq_true rfl⟩) rfl hl (k8 := 0) (cs0 (k := 0)) (by decide) ⟨Nat.le_refl _, Nat.le_refl _⟩ dX8_lies_38 rfl (fun r9 σ8 H locs hF hP => ?_)
        refine lv_if_ne (tgt := 50) X.1 X.2.1 dX8_lies_41 (by decide) (fun c21 => ?_) (fun c21 => ?_)
        · have hF := hF.1 c21
          refine ph_aload_n (n := 0) X hl dX8_lies_50 rfl rfl ?_
          refine tw_callVv [] X hP (met_X8_set l D dA ad _ _ hF) (cwV 0 X.2.2.2.2.1 (lw_V q2128 q2130 qs67 q126 q2131) rfl rfl rfl (by decide +kernel) ⟨Nat.le_of_ble_eq_true rfl, Nat.le_of_ble_eq_true rfl⟩) rfl hl (k8 := 0) (cs0 (k := 0)) (by decide) ⟨Nat.le_refl _, Nat.le_refl _⟩ dX8_lies_51 rfl (fun σ10 H locs hF hP => ?_)
          refine ph_aload_n (n := 0) X hl dX8_lies_54 rfl rfl ?_
          refine ph_aload_n (n := 0) X hl dX8_lies_55 rfl rfl ?_
          refine tw_geti 26 X hP q1796 dX8_lies_56 ?_
          refine ph_iload_n (n := 2) X hl dX8_lies_59 rfl rfl ?_
          refine tw_callVv [iX (σ10 0 26), iX a2] X hP (met_X8_go l D dA ad _ _ hF) (cwV 2 X.2.2.2.2.1 (lw_V q2203 q2205 qs76 q126 q2206) rfl rfl rfl (by decide +kernel) ⟨Nat.le_of_ble_eq_true rfl, Nat.le_of_ble_eq_true rfl⟩) rfl hl (k8 := 0) (cs0 (k := 0)) (by decide) ⟨Nat.le_refl _, Nat.le_refl _⟩ dX8_lies_60 rfl (fun σ12 H locs hF hP => ?_)
          refine ph_iload_n (n := 3) X hl dX8_lies_63 rfl rfl ?_
          refine lv_if_ne (tgt := 76) X.1 X.2.1 dX8_lies_64 (by decide) (fun c18 => ?_) (fun c18 => ?_)
          · have hF := hF.1 c18
            refine ph_aload_n (n := 0) X hl dX8_lies_76 rfl rfl ?_
            refine ph_iload_n (n := 1) X hl dX8_lies_77 rfl rfl ?_
            refine tw_callVi [iX a1] X hP (met_X8_isAwake l D dA ad _ _ hF) (cwV 1 X.2.2.2.2.1 (lw_V q2223 q2225 qs81 q126 q2226) rfl rfl rfl (by decide +kernel) ⟨Nat.le_of_ble_eq_true rfl, Nat.le_of_ble_eq_true rfl⟩) rfl hl (k8 := 0) (cs0 (k := 0)) (by decide) ⟨Nat.le_refl _, Nat.le_refl _⟩ dX8_lies_78 rfl (fun r15 σ14 H locs hF hP => ?_)
            refine lv_if_eq (tgt := 88) X.1 X.2.1 dX8_lies_81 (by decide) (fun c16 => ?_) (fun c16 => ?_)
            · have hF := hF.1 c16
              refine lv_iconst (v := 0) X.1 X.2.1 dX8_lies_88 (by decide) ?_
              exact tw_iret X hP hF dX8_lies_89
            · have hF := hF.2 c16
              refine lv_iconst (v := 1) X.1 X.2.1 dX8_lies_84 (by decide) ?_
              refine lv_goto (tgt := 89) X.1 X.2.1 dX8_lies_85 (by decide) ?_
              exact tw_iret X hP hF dX8_lies_89
          · have hF := hF.2 c18
            refine ph_aload_n (n := 0) X hl dX8_lies_67 rfl rfl ?_
            refine tw_getr 36 220 X hP q1806 dX8_lies_68 ?_
            refine ph_iload_n (n := 1) X hl dX8_lies_71 rfl rfl ?_
            obtain ⟨hr17, hF⟩ := hF
            refine tw_ald 20 (n := 7) X hP hr17 (k := a1.toNatClampNeg) rfl dX8_lies_72 ?_
            refine lv_goto (tgt := 89) X.1 X.2.1 dX8_lies_73 (by decide) ?_
            exact tw_iret X hP hF dX8_lies_89
        · have hF := hF.2 c21
          refine ph_aload_n (n := 0) X hl dX8_lies_44 rfl rfl ?_
          refine lv_iconst (v := 2) X.1 X.2.1 dX8_lies_45 (by decide) ?_
          refine tw_callVi [iX 2] X hP (met_X8_fail l D dA ad _ _ hF) (cwV 1 X.2.2.2.2.1 (lw_V q2002 q2004 qs44 q126 q2005) rfl rfl rfl (by decide +kernel) ⟨Nat.le_of_ble_eq_true rfl, Nat.le_of_ble_eq_true rfl⟩) rfl hl (k8 := 0) (cs0 (k := 0)) (by decide) ⟨Nat.le_refl _, Nat.le_refl _⟩ dX8_lies_46 rfl (fun r20 σ19 H locs hF hP => ?_)
          exact tw_iret X hP hF dX8_lies_49
      · have hF := hF.2 c24
        refine ph_aload_n (n := 0) X hl dX8_lies_22 rfl rfl ?_
        refine lv_iconst (v := 1) X.1 X.2.1 dX8_lies_23 (by decide) ?_
        refine tw_callVi [iX 1] X hP (met_X8_fail l D dA ad _ _ hF) (cwV 1 X.2.2.2.2.1 (lw_V q2002 q2004 qs44 q126 q2005) rfl rfl rfl (by decide +kernel) ⟨Nat.le_of_ble_eq_true rfl, Nat.le_of_ble_eq_true rfl⟩) rfl hl (k8 := 0) (cs0 (k := 0)) (by decide) ⟨Nat.le_refl _, Nat.le_refl _⟩ dX8_lies_24 rfl (fun r23 σ22 H locs hF hP => ?_)
        exact tw_iret X hP hF dX8_lies_27
def P_X8_turn (a1 : Int32) (a2 : Int32) (σ : S) (Q : Int32 → S → Prop) : Prop := (∀ σ1, σ1 = up2 σ 0 2 0 → (P_X8_isIn a2.toInt64 0 3 σ1 (fun r3 σ2 => ((¬ r3 = 0 → (P_X8_nightNow σ2 (fun σ4 => (P_X8_isIn a1.toInt64 0 (((if 1200 < (σ4 0 49) then 1200 else σ4 0 49) - 1).toInt64) σ4 (fun r7 σ6 => ((¬ r7 = 0 → ((¬ a2 = 0 → ((¬ a2 = 1 → ((¬ a2 = 2 → (vp_in a1 1200 ∧ (Q (σ6 28 a1.toNatClampNeg) σ6))) ∧ (a2 = 2 → (vp_in a1 1200 ∧ (Q (σ6 27 a1.toNatClampNeg) σ6))))) ∧ (a2 = 1 → (vp_in a1 1200 ∧ (Q (σ6 26 a1.toNatClampNeg) σ6))))) ∧ (a2 = 0 → (vp_in a1 1200 ∧ (Q (σ6 25 a1.toNatClampNeg) σ6))))) ∧ (r7 = 0 → (P_X8_fail 1 σ6 (fun r16 σ15 => (Q r16 σ15)))))))))) ∧ (r3 = 0 → (P_X8_fail 1 σ2 (fun r19 σ18 => (Q r19 σ18))))))))
set_option maxHeartbeats 2000000 in
theorem met_X8_turn (l : Launch) (D : va_G) (dA : Nat → ClassId) (ad : Nat → Nat) (σ : S) (sz : Nat) {a1 : Int32} {a2 : Int32} {Q : Int32 → S → Prop} (hF : P_X8_turn a1 a2 σ Q) : CTi l yX8_turn cX8_turn 3 .int ({ frames := 7, cells := 0, slots := 0, locals := 161 } : Room) D dA ad σ sz [pX 200, iX a1, iX a2] Q := by
  unfold P_X8_turn at hF
  refine ph_enter [pX 200, iX a1, iX a2] (Qc := fun A => va_Qi (TQi Q) (CB D dA ad A) A) (by decide +kernel) (Nat.le_of_ble_eq_true rfl) ?_
  intro p e s m args below meth c A ls X hP hl hnm
  have hl : LH ad ls 3 [(0, pX 200), (1, iX a1), (2, iX a2)] := hl
  refine ph_aload_n (n := 0) X hl dX8_turn_0 rfl rfl ?_
  refine lv_iconst (v := 0) X.1 X.2.1 dX8_turn_1 (by decide) ?_
  refine tw_puti 2 X hP q1772 dX8_turn_2 hF (fun H locs σ1 hP hF => ?_)
  refine ph_iload_n (n := 2) X hl dX8_turn_5 rfl rfl ?_
  refine lv_i2l X.1 X.2.1 dX8_turn_6 rfl ?_
  refine lv_lconst (v := 0) X.1 X.2.1 dX8_turn_7 (by decide) ?_
  refine lv_ldc2 (v := 3) X.1 X.2.1 X.2.2.2.1 (X.2.2.2.2.1 _ q2198) dX8_turn_8 ?_
  refine tw_callSi [lX a2.toInt64, lX 0, lX 3] X hP (met_X8_isIn l D dA ad _ _ hF) (va_cwS 3 X.2.2.2.2.1 (lw_S q2144 q2145 q126 q2146) rfl rfl rfl (by decide +kernel) ⟨Nat.le_of_ble_eq_true rfl, Nat.le_of_ble_eq_true rfl⟩) rfl hl (k8 := 0) (cs0 (k := 0)) (by decide) ⟨Nat.le_refl _, Nat.le_refl _⟩ dX8_turn_11 rfl (fun r3 σ2 H locs hF hP => ?_)
  refine lv_if_ne (tgt := 23) X.1 X.2.1 dX8_turn_14 (by decide) (fun c20 => ?_) (fun c20 => ?_)
  · have hF := hF.1 c20
    refine ph_aload_n (n := 0) X hl dX8_turn_23 rfl rfl ?_
    refine tw_callVv [] X hP (met_X8_nightNow l D dA ad _ _ hF) (cwV 0 X.2.2.2.2.1 (lw_V q2199 q2201 qs75 q126 q2202) rfl rfl rfl (by decide +kernel) ⟨Nat.le_of_ble_eq_true rfl, Nat.le_of_ble_eq_true rfl⟩) rfl hl (k8 := 0) (cs0 (k := 0)) (by decide) ⟨Nat.le_refl _, Nat.le_refl _⟩ dX8_turn_24 rfl (fun σ4 H locs hF hP => ?_)
    refine ph_iload_n (n := 1) X hl dX8_turn_27 rfl rfl ?_
    refine lv_i2l X.1 X.2.1 dX8_turn_28 rfl ?_
    refine lv_lconst (v := 0) X.1 X.2.1 dX8_turn_29 (by decide) ?_
    refine ph_aload_n (n := 0) X hl dX8_turn_30 rfl rfl ?_
    refine tw_geti 49 X hP q1819 dX8_turn_31 ?_
    refine lv_sipush (v := 1200) X.1 X.2.1 dX8_turn_34 (by decide) ?_
    refine va_mmin X.1 X.2.1 (X.2.2.1.trans hl.1.symm) X.2.2.2.1 (X.2.2.2.2.1 _ q2021) (X.2.2.2.2.1 _ q285) (X.2.2.2.2.1 _ q112) (X.2.2.2.2.1 _ q286) (Nat.le_of_ble_eq_true rfl) (Nat.le_trans (Nat.add_le_add_right (csl (csl (cs0 (k := 0)))) 13) (Nat.le_of_ble_eq_true rfl)) (Nat.le_refl _) (Nat.le_refl _) dX8_turn_37 ?_
    refine lv_iconst (v := 1) X.1 X.2.1 dX8_turn_40 (by decide) ?_
    refine lv_isub X.1 X.2.1 dX8_turn_41 ?_
    refine lv_i2l X.1 X.2.1 dX8_turn_42 rfl ?_
    refine tw_callSi [lX a1.toInt64, lX 0, lX (((if 1200 < (σ4 0 49) then 1200 else σ4 0 49) - 1).toInt64)] X hP (met_X8_isIn l D dA ad _ _ hF) (va_cwS 3 X.2.2.2.2.1 (lw_S q2144 q2145 q126 q2146) rfl rfl rfl (by decide +kernel) ⟨Nat.le_of_ble_eq_true rfl, Nat.le_of_ble_eq_true rfl⟩) rfl hl (k8 := 0) (cs0 (k := 0)) (by decide) ⟨Nat.le_refl _, Nat.le_refl _⟩ dX8_turn_43 rfl (fun r7 σ6 H locs hF hP => ?_)
    refine lv_if_ne (tgt := 55) X.1 X.2.1 dX8_turn_46 (by decide) (fun c17 => ?_) (fun c17 => ?_)
    · have hF := hF.1 c17
      refine ph_iload_n (n := 2) X hl dX8_turn_55 rfl rfl ?_
      refine lv_if_ne (tgt := 68) X.1 X.2.1 dX8_turn_56 (by decide) (fun c14 => ?_) (fun c14 => ?_)
      · have hF := hF.1 c14
        refine ph_iload_n (n := 2) X hl dX8_turn_68 rfl rfl ?_
        refine lv_iconst (v := 1) X.1 X.2.1 dX8_turn_69 (by decide) ?_
        refine lv_icmp_ne (tgt := 82) X.1 X.2.1 dX8_turn_70 (by decide) (fun c12 => ?_) (fun c12 => ?_)
        · have hF := hF.1 c12
          refine ph_iload_n (n := 2) X hl dX8_turn_82 rfl rfl ?_
          refine lv_iconst (v := 2) X.1 X.2.1 dX8_turn_83 (by decide) ?_
          refine lv_icmp_ne (tgt := 96) X.1 X.2.1 dX8_turn_84 (by decide) (fun c10 => ?_) (fun c10 => ?_)
          · have hF := hF.1 c10
            refine ph_aload_n (n := 0) X hl dX8_turn_96 rfl rfl ?_
            refine tw_getr 44 228 X hP q1814 dX8_turn_97 ?_
            refine ph_iload_n (n := 1) X hl dX8_turn_100 rfl rfl ?_
            obtain ⟨hr8, hF⟩ := hF
            refine tw_ald 28 (n := 1200) X hP hr8 (k := a1.toNatClampNeg) rfl dX8_turn_101 ?_
            exact tw_iret X hP hF dX8_turn_102
          · have hF := hF.2 c10
            refine ph_aload_n (n := 0) X hl dX8_turn_87 rfl rfl ?_
            refine tw_getr 43 227 X hP q1813 dX8_turn_88 ?_
            refine ph_iload_n (n := 1) X hl dX8_turn_91 rfl rfl ?_
            obtain ⟨hr9, hF⟩ := hF
            refine tw_ald 27 (n := 1200) X hP hr9 (k := a1.toNatClampNeg) rfl dX8_turn_92 ?_
            refine lv_goto (tgt := 102) X.1 X.2.1 dX8_turn_93 (by decide) ?_
            exact tw_iret X hP hF dX8_turn_102
        · have hF := hF.2 c12
          refine ph_aload_n (n := 0) X hl dX8_turn_73 rfl rfl ?_
          refine tw_getr 42 226 X hP q1812 dX8_turn_74 ?_
          refine ph_iload_n (n := 1) X hl dX8_turn_77 rfl rfl ?_
          obtain ⟨hr11, hF⟩ := hF
          refine tw_ald 26 (n := 1200) X hP hr11 (k := a1.toNatClampNeg) rfl dX8_turn_78 ?_
          refine lv_goto (tgt := 102) X.1 X.2.1 dX8_turn_79 (by decide) ?_
          exact tw_iret X hP hF dX8_turn_102
      · have hF := hF.2 c14
        refine ph_aload_n (n := 0) X hl dX8_turn_59 rfl rfl ?_
        refine tw_getr 41 225 X hP q1811 dX8_turn_60 ?_
        refine ph_iload_n (n := 1) X hl dX8_turn_63 rfl rfl ?_
        obtain ⟨hr13, hF⟩ := hF
        refine tw_ald 25 (n := 1200) X hP hr13 (k := a1.toNatClampNeg) rfl dX8_turn_64 ?_
        refine lv_goto (tgt := 102) X.1 X.2.1 dX8_turn_65 (by decide) ?_
        exact tw_iret X hP hF dX8_turn_102
    · have hF := hF.2 c17
      refine ph_aload_n (n := 0) X hl dX8_turn_49 rfl rfl ?_
      refine lv_iconst (v := 1) X.1 X.2.1 dX8_turn_50 (by decide) ?_
      refine tw_callVi [iX 1] X hP (met_X8_fail l D dA ad _ _ hF) (cwV 1 X.2.2.2.2.1 (lw_V q2002 q2004 qs44 q126 q2005) rfl rfl rfl (by decide +kernel) ⟨Nat.le_of_ble_eq_true rfl, Nat.le_of_ble_eq_true rfl⟩) rfl hl (k8 := 0) (cs0 (k := 0)) (by decide) ⟨Nat.le_refl _, Nat.le_refl _⟩ dX8_turn_51 rfl (fun r16 σ15 H locs hF hP => ?_)
      exact tw_iret X hP hF dX8_turn_54
  · have hF := hF.2 c20
    refine ph_aload_n (n := 0) X hl dX8_turn_17 rfl rfl ?_
    refine lv_iconst (v := 1) X.1 X.2.1 dX8_turn_18 (by decide) ?_
    refine tw_callVi [iX 1] X hP (met_X8_fail l D dA ad _ _ hF) (cwV 1 X.2.2.2.2.1 (lw_V q2002 q2004 qs44 q126 q2005) rfl rfl rfl (by decide +kernel) ⟨Nat.le_of_ble_eq_true rfl, Nat.le_of_ble_eq_true rfl⟩) rfl hl (k8 := 0) (cs0 (k := 0)) (by decide) ⟨Nat.le_refl _, Nat.le_refl _⟩ dX8_turn_19 rfl (fun r19 σ18 H locs hF hP => ?_)
    exact tw_iret X hP hF dX8_turn_22
def P_X8_tenthsNow_11 (Q : Int32 → S → Prop) : Nat → Int32 → Int32 → Int32 → S → Prop
  | 0, _, _, _, _ => False
  | n + 1, x1, x2, x3, σ => ((x3 < 0 → (Q x1 σ)) ∧ (¬ x3 < 0 → (vp_in x3 7 ∧ (vp_in (σ 18 x3.toNatClampNeg) 14 ∧ (vp_in x3 7 ∧ (P_X8_isDeaf (σ 18 x3.toNatClampNeg) σ (fun r5 σ4 => ((r5 = 0 → (P_X8_tenthsNow_11 Q  n (x1 + ((σ 9 ((σ 18 x3.toNatClampNeg).toNatClampNeg)) * x2)) (x2 + 1) (x3 + (-1)) σ4)) ∧ (¬ r5 = 0 → (P_X8_tenthsNow_11 Q  n (x1 + ((σ 9 ((σ 18 x3.toNatClampNeg).toNatClampNeg)) * x2)) (x2 + 0) (x3 + (-1)) σ4))))))))))
def P_X8_tenthsNow  (σ : S) (Q : Int32 → S → Prop) : Prop := (∃ n9, P_X8_tenthsNow_11 Q n9 0 0 ((σ 0 45) - 1) σ)
set_option maxHeartbeats 2000000 in
theorem w_X8_tenthsNow_11 (X : CX p s m args c meth cX8_tenthsNow 4 (some .int) RX8 D dA ad A) {Q : Int32 → S → Prop} : ∀ (n : Nat) (x1 : Int32) (x2 : Int32) (x3 : Int32) (σ : S) (H : Heap) (locs : List Loc) (ls : Array Slot), P_X8_tenthsNow_11 Q n x1 x2 x3 σ → PW D dA A s.heap ad (TH σ) H locs → LH ad ls 4 [(0, pX 200), (1, iX x1), (2, iX x2), (3, iX x3)] → WTi p l e ({ frames := 1, cells := 0, slots := 0, locals := 21 } : Room) s m args below meth c D dA ad A Q H locs (F0 m 11 ls []) := by
  intro n
  induction n with
  | zero =>
    intro x1 x2 x3 σ H locs ls hF
    exact hF.elim
  | succ n ih =>
    intro x1 x2 x3 σ H locs ls hF hP hl
    rw [P_X8_tenthsNow_11] at hF
    refine ph_iload_n (n := 3) X hl dX8_tenthsNow_11 rfl rfl ?_
    refine lv_if_lt (tgt := 58) X.1 X.2.1 dX8_tenthsNow_12 (by decide) (fun c7 => ?_) (fun c7 => ?_)
    · have hF := hF.1 c7
      refine ph_iload_n (n := 1) X hl dX8_tenthsNow_58 rfl rfl ?_
      exact tw_iret X hP hF dX8_tenthsNow_59
    · have hF := hF.2 c7
      refine ph_iload_n (n := 1) X hl dX8_tenthsNow_15 rfl rfl ?_
      refine ph_aload_n (n := 0) X hl dX8_tenthsNow_16 rfl rfl ?_
      refine tw_getr 9 209 X hP q1779 dX8_tenthsNow_17 ?_
      refine ph_aload_n (n := 0) X hl dX8_tenthsNow_20 rfl rfl ?_
      refine tw_getr 34 218 X hP q1804 dX8_tenthsNow_21 ?_
      refine ph_iload_n (n := 3) X hl dX8_tenthsNow_24 rfl rfl ?_
      obtain ⟨hr1, hF⟩ := hF
      refine tw_ald 18 (n := 7) X hP hr1 (k := x3.toNatClampNeg) rfl dX8_tenthsNow_25 ?_
      obtain ⟨hr2, hF⟩ := hF
      refine tw_ald 9 (n := 14) X hP hr2 (k := (σ 18 x3.toNatClampNeg).toNatClampNeg) rfl dX8_tenthsNow_26 ?_
      refine ph_iload_n (n := 2) X hl dX8_tenthsNow_27 rfl rfl ?_
      refine lv_imul X.1 X.2.1 dX8_tenthsNow_28 ?_
      refine lv_iadd X.1 X.2.1 dX8_tenthsNow_29 ?_
      refine ph_istore_n X hl dX8_tenthsNow_30 rfl (by decide) rfl (fun ls hl => ?_)
      refine ph_iload_n (n := 2) X hl dX8_tenthsNow_31 rfl rfl ?_
      refine ph_aload_n (n := 1) X hl dX8_tenthsNow_32 rfl rfl ?_
      refine ph_aload_n (n := 1) X hl dX8_tenthsNow_33 rfl rfl ?_
      refine tw_getr 34 218 X hP q1804 dX8_tenthsNow_34 ?_
      refine ph_iload_n (n := 3) X hl dX8_tenthsNow_37 rfl rfl ?_
      obtain ⟨hr3, hF⟩ := hF
      refine tw_ald 18 (n := 7) X hP hr3 (k := x3.toNatClampNeg) rfl dX8_tenthsNow_38 ?_
      refine tw_callVi [iX (σ 18 x3.toNatClampNeg)] X hP (met_X8_isDeaf l D dA ad _ _ hF) (cwV 1 X.2.2.2.2.1 (lw_V q2219 q2221 qs80 q126 q2222) rfl rfl rfl (by decide +kernel) ⟨Nat.le_of_ble_eq_true rfl, Nat.le_of_ble_eq_true rfl⟩) rfl hl (k8 := 1) (csi (cs0 (k := 0))) (by decide) ⟨Nat.le_refl _, Nat.le_refl _⟩ dX8_tenthsNow_39 rfl (fun r5 σ4 H locs hF hP => ?_)
      refine lv_if_eq (tgt := 49) X.1 X.2.1 dX8_tenthsNow_42 (by decide) (fun c6 => ?_) (fun c6 => ?_)
      · have hF := hF.1 c6
        refine lv_iconst (v := 1) X.1 X.2.1 dX8_tenthsNow_49 (by decide) ?_
        refine lv_iadd X.1 X.2.1 dX8_tenthsNow_50 ?_
        refine ph_istore_n X hl dX8_tenthsNow_51 rfl (by decide) rfl (fun ls hl => ?_)
        refine ph_iinc (v := x3 + (-1)) (k := 3) X hl dX8_tenthsNow_52 rfl rfl (by decide) rfl (fun ls hl => ?_)
        refine lv_goto (tgt := 11) X.1 X.2.1 dX8_tenthsNow_55 (by decide) ?_
        exact ih _ _ _ _ _ _ _ hF hP (lh_sub hl [3, 2, 1, 0] rfl)
      · have hF := hF.2 c6
        refine lv_iconst (v := 0) X.1 X.2.1 dX8_tenthsNow_45 (by decide) ?_
        refine lv_goto (tgt := 50) X.1 X.2.1 dX8_tenthsNow_46 (by decide) ?_
        refine lv_iadd X.1 X.2.1 dX8_tenthsNow_50 ?_
        refine ph_istore_n X hl dX8_tenthsNow_51 rfl (by decide) rfl (fun ls hl => ?_)
        refine ph_iinc (v := x3 + (-1)) (k := 3) X hl dX8_tenthsNow_52 rfl rfl (by decide) rfl (fun ls hl => ?_)
        refine lv_goto (tgt := 11) X.1 X.2.1 dX8_tenthsNow_55 (by decide) ?_
        exact ih _ _ _ _ _ _ _ hF hP (lh_sub hl [3, 2, 1, 0] rfl)
set_option maxHeartbeats 2000000 in
theorem met_X8_tenthsNow (l : Launch) (D : va_G) (dA : Nat → ClassId) (ad : Nat → Nat) (σ : S) (sz : Nat) {Q : Int32 → S → Prop} (hF : P_X8_tenthsNow  σ Q) : CTi l yX8_tenthsNow cX8_tenthsNow 4 .int ({ frames := 1, cells := 0, slots := 0, locals := 21 } : Room) D dA ad σ sz [pX 200] Q := by
  unfold P_X8_tenthsNow at hF
  refine ph_enter [pX 200] (Qc := fun A => va_Qi (TQi Q) (CB D dA ad A) A) (by decide +kernel) (Nat.le_of_ble_eq_true rfl) ?_
  intro p e s m args below meth c A ls X hP hl hnm
  have hl : LH ad ls 4 [(0, pX 200)] := hl
  refine lv_iconst (v := 0) X.1 X.2.1 dX8_tenthsNow_0 (by decide) ?_
  refine ph_istore_n X hl dX8_tenthsNow_1 rfl (by decide) rfl (fun ls hl => ?_)
  refine lv_iconst (v := 0) X.1 X.2.1 dX8_tenthsNow_2 (by decide) ?_
  refine ph_istore_n X hl dX8_tenthsNow_3 rfl (by decide) rfl (fun ls hl => ?_)
  refine ph_aload_n (n := 2) X hl dX8_tenthsNow_4 rfl rfl ?_
  refine tw_geti 45 X hP q1815 dX8_tenthsNow_5 ?_
  refine lv_iconst (v := 1) X.1 X.2.1 dX8_tenthsNow_8 (by decide) ?_
  refine lv_isub X.1 X.2.1 dX8_tenthsNow_9 ?_
  refine ph_istore_n X hl dX8_tenthsNow_10 rfl (by decide) rfl (fun ls hl => ?_)
  obtain ⟨n9, hF⟩ := hF
  exact w_X8_tenthsNow_11 X n9 _ _ _ _ _ _ _ hF hP (lh_sub hl [3, 2, 1, 0] rfl)
def P_X8_valueOf (a1 : Int32) (σ : S) (Q : Int32 → S → Prop) : Prop := ((¬ a1 = 2 → (P_X8_go (σ 0 26) (σ 3 3) σ (fun σ1 => (P_X8_allWoken σ1 (fun r4 σ3 => (Q r4 σ3)))))) ∧ (a1 = 2 → (P_X8_tenthsNow σ (fun r6 σ5 => (Q r6 σ5)))))
set_option maxHeartbeats 2000000 in
theorem met_X8_valueOf (l : Launch) (D : va_G) (dA : Nat → ClassId) (ad : Nat → Nat) (σ : S) (sz : Nat) {a1 : Int32} {Q : Int32 → S → Prop} (hF : P_X8_valueOf a1 σ Q) : CTi l yX8_valueOf cX8_valueOf 2 .int ({ frames := 6, cells := 0, slots := 0, locals := 141 } : Room) D dA ad σ sz [pX 200, iX a1] Q := by
  unfold P_X8_valueOf at hF
  refine ph_enter [pX 200, iX a1] (Qc := fun A => va_Qi (TQi Q) (CB D dA ad A) A) (by decide +kernel) (Nat.le_of_ble_eq_true rfl) ?_
  intro p e s m args below meth c A ls X hP hl hnm
  have hl : LH ad ls 2 [(0, pX 200), (1, iX a1)] := hl
  refine ph_iload_n (n := 1) X hl dX8_valueOf_0 rfl rfl ?_
  refine lv_iconst (v := 2) X.1 X.2.1 dX8_valueOf_1 (by decide) ?_
  refine lv_icmp_ne (tgt := 10) X.1 X.2.1 dX8_valueOf_2 (by decide) (fun c7 => ?_) (fun c7 => ?_)
  · have hF := hF.1 c7
    refine ph_aload_n (n := 0) X hl dX8_valueOf_10 rfl rfl ?_
    refine ph_aload_n (n := 0) X hl dX8_valueOf_11 rfl rfl ?_
    refine tw_geti 26 X hP q1796 dX8_valueOf_12 ?_
    refine ph_aload_n (n := 0) X hl dX8_valueOf_15 rfl rfl ?_
    refine tw_getr 3 203 X hP q1773 dX8_valueOf_16 ?_
    refine lv_iconst (v := 3) X.1 X.2.1 dX8_valueOf_19 (by decide) ?_
    refine tw_ald 3 (n := 16) X hP (vin (by decide)) (k := 3) (by decide) dX8_valueOf_20 ?_
    refine tw_callVv [iX (σ 0 26), iX (σ 3 3)] X hP (met_X8_go l D dA ad _ _ hF) (cwV 2 X.2.2.2.2.1 (lw_V q2203 q2205 qs76 q126 q2206) rfl rfl rfl (by decide +kernel) ⟨Nat.le_of_ble_eq_true rfl, Nat.le_of_ble_eq_true rfl⟩) rfl hl (k8 := 0) (cs0 (k := 0)) (by decide) ⟨Nat.le_refl _, Nat.le_refl _⟩ dX8_valueOf_21 rfl (fun σ1 H locs hF hP => ?_)
    refine ph_aload_n (n := 0) X hl dX8_valueOf_24 rfl rfl ?_
    refine tw_callVi [] X hP (met_X8_allWoken l D dA ad _ _ hF) (cwV 0 X.2.2.2.2.1 (lw_V q2256 q2258 qs88 q126 q2259) rfl rfl rfl (by decide +kernel) ⟨Nat.le_of_ble_eq_true rfl, Nat.le_of_ble_eq_true rfl⟩) rfl hl (k8 := 0) (cs0 (k := 0)) (by decide) ⟨Nat.le_refl _, Nat.le_refl _⟩ dX8_valueOf_25 rfl (fun r4 σ3 H locs hF hP => ?_)
    exact tw_iret X hP hF dX8_valueOf_28
  · have hF := hF.2 c7
    refine ph_aload_n (n := 0) X hl dX8_valueOf_5 rfl rfl ?_
    refine tw_callVi [] X hP (met_X8_tenthsNow l D dA ad _ _ hF) (cwV 0 X.2.2.2.2.1 (lw_V q2292 q2294 qs93 q126 q2295) rfl rfl rfl (by decide +kernel) ⟨Nat.le_of_ble_eq_true rfl, Nat.le_of_ble_eq_true rfl⟩) rfl hl (k8 := 0) (cs0 (k := 0)) (by decide) ⟨Nat.le_refl _, Nat.le_refl _⟩ dX8_valueOf_6 rfl (fun r6 σ5 H locs hF hP => ?_)
    exact tw_iret X hP hF dX8_valueOf_9
def P_X8_keepBest_7 (Q : S → Prop) : Nat → Int32 → S → Prop
  | 0, _, _ => False
  | n + 1, x1, σ => (((σ 0 45) ≤ x1 → (Q σ)) ∧ (¬ (σ 0 45) ≤ x1 → (vp_in x1 7 ∧ (vp_in x1 7 ∧ (∀ σ2, σ2 = up2 σ 29 x1.toNatClampNeg (σ 30 x1.toNatClampNeg) → (P_X8_keepBest_7 Q  n (x1 + 1) σ2))))))
def P_X8_keepBest  (σ : S) (Q : S → Prop) : Prop := (∀ σ5, σ5 = up2 σ 0 58 1 → (∃ n9, P_X8_keepBest_7 Q n9 0 σ5))
set_option maxHeartbeats 2000000 in
theorem w_X8_keepBest_7 (X : CX p s m args c meth cX8_keepBest 2 none RX8 D dA ad A) {Q : S → Prop} : ∀ (n : Nat) (x1 : Int32) (σ : S) (H : Heap) (locs : List Loc) (ls : Array Slot), P_X8_keepBest_7 Q n x1 σ → PW D dA A s.heap ad (TH σ) H locs → LH ad ls 2 [(0, pX 200), (1, iX x1)] → WTv p l e ({ frames := 0, cells := 0, slots := 0, locals := 0 } : Room) s m args below meth c D dA ad A Q H locs (F0 m 7 ls []) := by
  intro n
  induction n with
  | zero =>
    intro x1 σ H locs ls hF
    exact hF.elim
  | succ n ih =>
    intro x1 σ H locs ls hF hP hl
    rw [P_X8_keepBest_7] at hF
    refine ph_iload_n (n := 1) X hl dX8_keepBest_7 rfl rfl ?_
    refine ph_aload_n (n := 0) X hl dX8_keepBest_8 rfl rfl ?_
    refine tw_geti 45 X hP q1815 dX8_keepBest_9 ?_
    refine lv_icmp_ge (tgt := 33) X.1 X.2.1 dX8_keepBest_12 (by decide) (fun c4 => ?_) (fun c4 => ?_)
    · have hF := hF.1 c4
      exact tw_vret X hP hF dX8_keepBest_33
    · have hF := hF.2 c4
      refine ph_aload_n (n := 0) X hl dX8_keepBest_15 rfl rfl ?_
      refine tw_getr 54 229 X hP q1824 dX8_keepBest_16 ?_
      refine ph_iload_n (n := 1) X hl dX8_keepBest_19 rfl rfl ?_
      refine ph_aload_n (n := 0) X hl dX8_keepBest_20 rfl rfl ?_
      refine tw_getr 55 230 X hP q1825 dX8_keepBest_21 ?_
      refine ph_iload_n (n := 1) X hl dX8_keepBest_24 rfl rfl ?_
      obtain ⟨hr1, hF⟩ := hF
      refine tw_ald 30 (n := 7) X hP hr1 (k := x1.toNatClampNeg) rfl dX8_keepBest_25 ?_
      obtain ⟨hr3, hF⟩ := hF
      refine tw_ast 29 (n := 7) X hP hr3 (k := x1.toNatClampNeg) rfl dX8_keepBest_26 hF (fun H locs σ2 hP hF => ?_)
      refine ph_iinc (v := x1 + 1) (k := 1) X hl dX8_keepBest_27 rfl rfl (by decide) rfl (fun ls hl => ?_)
      refine lv_goto (tgt := 7) X.1 X.2.1 dX8_keepBest_30 (by decide) ?_
      exact ih _ _ _ _ _ hF hP (lh_sub hl [1, 0] rfl)
set_option maxHeartbeats 2000000 in
theorem met_X8_keepBest (l : Launch) (D : va_G) (dA : Nat → ClassId) (ad : Nat → Nat) (σ : S) (sz : Nat) {Q : S → Prop} (hF : P_X8_keepBest  σ Q) : CTv l yX8_keepBest cX8_keepBest 2 ({ frames := 0, cells := 0, slots := 0, locals := 0 } : Room) D dA ad σ sz [pX 200] Q := by
  unfold P_X8_keepBest at hF
  refine ph_enter [pX 200] (Qc := fun A => va_Qv (TQv Q) (CB D dA ad A) A) (by decide +kernel) (Nat.le_of_ble_eq_true rfl) ?_
  intro p e s m args below meth c A ls X hP hl hnm
  have hl : LH ad ls 2 [(0, pX 200)] := hl
  refine ph_aload_n (n := 0) X hl dX8_keepBest_0 rfl rfl ?_
  refine lv_iconst (v := 1) X.1 X.2.1 dX8_keepBest_1 (by decide) ?_
  refine tw_putz 58 X hP q1828 dX8_keepBest_2 isB_1 hF (fun H locs σ5 hP hF => ?_)
  refine lv_iconst (v := 0) X.1 X.2.1 dX8_keepBest_5 (by decide) ?_
  refine ph_istore_n X hl dX8_keepBest_6 rfl (by decide) rfl (fun ls hl => ?_)
  obtain ⟨n9, hF⟩ := hF
  exact w_X8_keepBest_7 X n9 _ _ _ _ _ hF hP (lh_sub hl [1, 0] rfl)
def P_X8_kept (a1 : Int32) (σ : S) (Q : Int32 → S → Prop) : Prop := (∀ σ1, σ1 = up2 σ 0 2 0 → (((σ1 0 58) = 0 → (P_X8_fail 1 σ1 (fun r3 σ2 => (Q r3 σ2)))) ∧ (¬ (σ1 0 58) = 0 → (P_X8_isSleeper a1 σ1 (fun r5 σ4 => ((r5 = 0 → (P_X8_fail 1 σ4 (fun r7 σ6 => (Q r7 σ6)))) ∧ (¬ r5 = 0 → (vp_in a1 7 ∧ (Q (σ4 29 a1.toNatClampNeg) σ4)))))))))
set_option maxHeartbeats 2000000 in
theorem met_X8_kept (l : Launch) (D : va_G) (dA : Nat → ClassId) (ad : Nat → Nat) (σ : S) (sz : Nat) {a1 : Int32} {Q : Int32 → S → Prop} (hF : P_X8_kept a1 σ Q) : CTi l yX8_kept cX8_kept 2 .int ({ frames := 2, cells := 0, slots := 0, locals := 46 } : Room) D dA ad σ sz [pX 200, iX a1] Q := by
  unfold P_X8_kept at hF
  refine ph_enter [pX 200, iX a1] (Qc := fun A => va_Qi (TQi Q) (CB D dA ad A) A) (by decide +kernel) (Nat.le_of_ble_eq_true rfl) ?_
  intro p e s m args below meth c A ls X hP hl hnm
  have hl : LH ad ls 2 [(0, pX 200), (1, iX a1)] := hl
  refine ph_aload_n (n := 0) X hl dX8_kept_0 rfl rfl ?_
  refine lv_iconst (v := 0) X.1 X.2.1 dX8_kept_1 (by decide) ?_
  refine tw_puti 2 X hP q1772 dX8_kept_2 hF (fun H locs σ1 hP hF => ?_)
  refine ph_aload_n (n := 0) X hl dX8_kept_5 rfl rfl ?_
  refine tw_geti 58 X hP q1828 dX8_kept_6 ?_
  refine lv_if_eq (tgt := 29) X.1 X.2.1 dX8_kept_9 (by decide) (fun c10 => ?_) (fun c10 => ?_)
  · have hF := hF.1 c10
    refine ph_aload_n (n := 0) X hl dX8_kept_29 rfl rfl ?_
    refine lv_iconst (v := 1) X.1 X.2.1 dX8_kept_30 (by decide) ?_
    refine tw_callVi [iX 1] X hP (met_X8_fail l D dA ad _ _ hF) (cwV 1 X.2.2.2.2.1 (lw_V q2002 q2004 qs44 q126 q2005) rfl rfl rfl (by decide +kernel) ⟨Nat.le_of_ble_eq_true rfl, Nat.le_of_ble_eq_true rfl⟩) rfl hl (k8 := 0) (cs0 (k := 0)) (by decide) ⟨Nat.le_refl _, Nat.le_refl _⟩ dX8_kept_31 rfl (fun r3 σ2 H locs hF hP => ?_)
    exact tw_iret X hP hF dX8_kept_34
  · have hF := hF.2 c10
    refine ph_aload_n (n := 0) X hl dX8_kept_12 rfl rfl ?_
    refine ph_iload_n (n := 1) X hl dX8_kept_13 rfl rfl ?_
    refine tw_callVi [iX a1] X hP (met_X8_isSleeper l D dA ad _ _ hF) (cwV 1 X.2.2.2.2.1 (lw_V q2140 q2142 qs69 q126 q2143) rfl rfl rfl (by decide +kernel) ⟨Nat.le_of_ble_eq_true rfl, Nat.le_of_ble_eq_true rfl⟩) rfl hl (k8 := 0) (cs0 (k := 0)) (by decide) ⟨Nat.le_refl _, Nat.le_refl _⟩ dX8_kept_14 rfl (fun r5 σ4 H locs hF hP => ?_)
    refine lv_if_eq (tgt := 29) X.1 X.2.1 dX8_kept_17 (by decide) (fun c9 => ?_) (fun c9 => ?_)
    · have hF := hF.1 c9
      refine ph_aload_n (n := 0) X hl dX8_kept_29 rfl rfl ?_
      refine lv_iconst (v := 1) X.1 X.2.1 dX8_kept_30 (by decide) ?_
      refine tw_callVi [iX 1] X hP (met_X8_fail l D dA ad _ _ hF) (cwV 1 X.2.2.2.2.1 (lw_V q2002 q2004 qs44 q126 q2005) rfl rfl rfl (by decide +kernel) ⟨Nat.le_of_ble_eq_true rfl, Nat.le_of_ble_eq_true rfl⟩) rfl hl (k8 := 0) (cs0 (k := 0)) (by decide) ⟨Nat.le_refl _, Nat.le_refl _⟩ dX8_kept_31 rfl (fun r7 σ6 H locs hF hP => ?_)
      exact tw_iret X hP hF dX8_kept_34
    · have hF := hF.2 c9
      refine ph_aload_n (n := 0) X hl dX8_kept_20 rfl rfl ?_
      refine tw_getr 54 229 X hP q1824 dX8_kept_21 ?_
      refine ph_iload_n (n := 1) X hl dX8_kept_24 rfl rfl ?_
      obtain ⟨hr8, hF⟩ := hF
      refine tw_ald 29 (n := 7) X hP hr8 (k := a1.toNatClampNeg) rfl dX8_kept_25 ?_
      refine lv_goto (tgt := 34) X.1 X.2.1 dX8_kept_26 (by decide) ?_
      exact tw_iret X hP hF dX8_kept_34
def P_X8_every_108 (Q : Int32 → S → Prop) (k63 : Int32 → Int32 → Int32 → S → Prop) (x2 : Int32) (x5 : Int32) (σ : S) : Prop := (∀ σ1, σ1 = up2 σ 0 47 ((σ 0 47) + 1) → (k63 x2 (σ 0 47) x5 σ1))
def P_X8_every_63 (Q : Int32 → S → Prop) : Nat → Int32 → Int32 → Int32 → S → Prop
  | 0, _, _, _, _ => False
  | n + 1, x2, x3, x4, σ => ((240 < (σ 0 47) → ((¬ x2 = 0 → (Q x4 σ)) ∧ (x2 = 0 → (Q x3 σ)))) ∧ (¬ 240 < (σ 0 47) → (P_X8_go (σ 0 26) (σ 3 3) σ (fun σ3 => (P_X8_allWoken σ3 (fun r6 σ5 => ((x3 = (-1) → (P_X8_every_108 Q (fun z0 z1 z2 z3 => P_X8_every_63 Q  n z0 z1 z2 z3) x2 r6 σ5)) ∧ (¬ x3 = (-1) → ((r6 < x4 → (P_X8_every_108 Q (fun z0 z1 z2 z3 => P_X8_every_63 Q  n z0 z1 z2 z3) x2 r6 σ5)) ∧ (¬ r6 < x4 → (∀ σ7, σ7 = up2 σ5 0 47 ((σ5 0 47) + 1) → (P_X8_every_63 Q  n x2 x3 x4 σ7))))))))))))
def P_X8_every (a1 : Int32) (a2 : Int32) (σ : S) (Q : Int32 → S → Prop) : Prop := (∀ σ11, σ11 = up2 σ 0 2 0 → (P_X8_isSleeper a1 σ11 (fun r13 σ12 => ((r13 = 0 → (P_X8_fail 1 σ12 (fun r15 σ14 => (Q r15 σ14)))) ∧ (¬ r13 = 0 → ((a2 < 0 → (P_X8_fail 1 σ12 (fun r17 σ16 => (Q r17 σ16)))) ∧ (¬ a2 < 0 → ((a2 ≤ 1 → (vp_in a1 14 ∧ ((¬ (σ12 4 a1.toNatClampNeg) = 3 → (P_X8_set σ12 (fun σ19 => (∀ σ21, σ21 = up2 σ19 0 46 a1 → (∀ σ22, σ22 = up2 σ21 0 47 0 → (∃ n9, P_X8_every_63 Q n9 a2 (-1) 0 σ22)))))) ∧ ((σ12 4 a1.toNatClampNeg) = 3 → (P_X8_fail 2 σ12 (fun r24 σ23 => (Q r24 σ23))))))) ∧ (¬ a2 ≤ 1 → (P_X8_fail 1 σ12 (fun r27 σ26 => (Q r27 σ26))))))))))))
set_option maxHeartbeats 2000000 in
theorem w_X8_every_108 (X : CX p s m args c meth cX8_every 6 (some .int) RX8 D dA ad A) {Q : Int32 → S → Prop} {k63 : Int32 → Int32 → Int32 → S → Prop} (hk63 : ∀ (x2 : Int32) (x3 : Int32) (x4 : Int32) (σ : S) (H : Heap) (locs : List Loc) (ls : Array Slot), k63 x2 x3 x4 σ → PW D dA A s.heap ad (TH σ) H locs → LH ad ls 6 [(0, pX 200), (2, iX x2), (3, iX x3), (4, iX x4)] → WTi p l e ({ frames := 6, cells := 0, slots := 0, locals := 141 } : Room) s m args below meth c D dA ad A Q H locs (F0 m 63 ls [])) : ∀ (x2 : Int32) (x5 : Int32) (σ : S) (H : Heap) (locs : List Loc) (ls : Array Slot), P_X8_every_108 Q k63 x2 x5 σ → PW D dA A s.heap ad (TH σ) H locs → LH ad ls 6 [(0, pX 200), (2, iX x2), (5, iX x5)] → WTi p l e ({ frames := 6, cells := 0, slots := 0, locals := 141 } : Room) s m args below meth c D dA ad A Q H locs (F0 m 108 ls []) := by
  intro x2 x5 σ H locs ls hF hP hl
  unfold P_X8_every_108 at hF
  refine ph_aload_n (n := 0) X hl dX8_every_108 rfl rfl ?_
  refine tw_geti 47 X hP q1817 dX8_every_109 ?_
  refine ph_istore_n X hl dX8_every_112 rfl (by decide) rfl (fun ls hl => ?_)
  refine ph_iload (n := 3) X hl dX8_every_113 rfl ?_
  refine ph_istore X hl dX8_every_115 (by decide) rfl (fun ls hl => ?_)
  refine ph_aload_n (n := 2) X hl dX8_every_117 rfl rfl ?_
  refine ph_dup_r X dX8_every_118 ?_
  refine tw_geti 47 X hP q1817 dX8_every_119 ?_
  refine lv_iconst (v := 1) X.1 X.2.1 dX8_every_122 (by decide) ?_
  refine lv_iadd X.1 X.2.1 dX8_every_123 ?_
  refine tw_puti 47 X hP q1817 dX8_every_124 hF (fun H locs σ1 hP hF => ?_)
  refine lv_goto (tgt := 63) X.1 X.2.1 dX8_every_127 (by decide) ?_
  exact hk63 _ _ _ _ _ _ _ hF hP (lh_sub hl [2, 3, 1, 0] rfl)
set_option maxHeartbeats 2000000 in
theorem w_X8_every_63 (X : CX p s m args c meth cX8_every 6 (some .int) RX8 D dA ad A) {Q : Int32 → S → Prop} : ∀ (n : Nat) (x2 : Int32) (x3 : Int32) (x4 : Int32) (σ : S) (H : Heap) (locs : List Loc) (ls : Array Slot), P_X8_every_63 Q n x2 x3 x4 σ → PW D dA A s.heap ad (TH σ) H locs → LH ad ls 6 [(0, pX 200), (2, iX x2), (3, iX x3), (4, iX x4)] → WTi p l e ({ frames := 6, cells := 0, slots := 0, locals := 141 } : Room) s m args below meth c D dA ad A Q H locs (F0 m 63 ls []) := by
  intro n
  induction n with
  | zero =>
    intro x2 x3 x4 σ H locs ls hF
    exact hF.elim
  | succ n ih =>
    intro x2 x3 x4 σ H locs ls hF hP hl
    rw [P_X8_every_63] at hF
    refine ph_aload_n (n := 0) X hl dX8_every_63 rfl rfl ?_
    refine tw_geti 47 X hP q1817 dX8_every_64 ?_
    refine lv_sipush (v := 240) X.1 X.2.1 dX8_every_67 (by decide) ?_
    refine lv_icmp_gt (tgt := 130) X.1 X.2.1 dX8_every_70 (by decide) (fun c10 => ?_) (fun c10 => ?_)
    · have hF := hF.1 c10
      refine ph_iload_n (n := 1) X hl dX8_every_130 rfl rfl ?_
      refine lv_if_ne (tgt := 138) X.1 X.2.1 dX8_every_131 (by decide) (fun c2 => ?_) (fun c2 => ?_)
      · have hF := hF.1 c2
        refine ph_iload (n := 3) X hl dX8_every_138 rfl ?_
        exact tw_iret X hP hF dX8_every_140
      · have hF := hF.2 c2
        refine ph_iload_n (n := 2) X hl dX8_every_134 rfl rfl ?_
        refine lv_goto (tgt := 140) X.1 X.2.1 dX8_every_135 (by decide) ?_
        exact tw_iret X hP hF dX8_every_140
    · have hF := hF.2 c10
      refine ph_aload_n (n := 0) X hl dX8_every_73 rfl rfl ?_
      refine ph_aload_n (n := 0) X hl dX8_every_74 rfl rfl ?_
      refine tw_geti 26 X hP q1796 dX8_every_75 ?_
      refine ph_aload_n (n := 0) X hl dX8_every_78 rfl rfl ?_
      refine tw_getr 3 203 X hP q1773 dX8_every_79 ?_
      refine lv_iconst (v := 3) X.1 X.2.1 dX8_every_82 (by decide) ?_
      refine tw_ald 3 (n := 16) X hP (vin (by decide)) (k := 3) (by decide) dX8_every_83 ?_
      refine tw_callVv [iX (σ 0 26), iX (σ 3 3)] X hP (met_X8_go l D dA ad _ _ hF) (cwV 2 X.2.2.2.2.1 (lw_V q2203 q2205 qs76 q126 q2206) rfl rfl rfl (by decide +kernel) ⟨Nat.le_of_ble_eq_true rfl, Nat.le_of_ble_eq_true rfl⟩) rfl hl (k8 := 0) (cs0 (k := 0)) (by decide) ⟨Nat.le_refl _, Nat.le_refl _⟩ dX8_every_84 rfl (fun σ3 H locs hF hP => ?_)
      refine ph_aload_n (n := 0) X hl dX8_every_87 rfl rfl ?_
      refine tw_callVi [] X hP (met_X8_allWoken l D dA ad _ _ hF) (cwV 0 X.2.2.2.2.1 (lw_V q2256 q2258 qs88 q126 q2259) rfl rfl rfl (by decide +kernel) ⟨Nat.le_of_ble_eq_true rfl, Nat.le_of_ble_eq_true rfl⟩) rfl hl (k8 := 0) (cs0 (k := 0)) (by decide) ⟨Nat.le_refl _, Nat.le_refl _⟩ dX8_every_88 rfl (fun r6 σ5 H locs hF hP => ?_)
      refine ph_istore X hl dX8_every_91 (by decide) rfl (fun ls hl => ?_)
      refine ph_iload_n (n := 3) X hl dX8_every_93 rfl rfl ?_
      refine lv_iconst (v := (-1)) X.1 X.2.1 dX8_every_94 (by decide) ?_
      refine lv_icmp_eq (tgt := 108) X.1 X.2.1 dX8_every_95 (by decide) (fun c9 => ?_) (fun c9 => ?_)
      · have hF := hF.1 c9
        exact w_X8_every_108 X ih _ _ _ _ _ _ hF hP (lh_sub hl [1, 2, 0] rfl)
      · have hF := hF.2 c9
        refine ph_iload (n := 0) X hl dX8_every_98 rfl ?_
        refine ph_iload (n := 4) X hl dX8_every_100 rfl ?_
        refine lv_icmp_lt (tgt := 108) X.1 X.2.1 dX8_every_102 (by decide) (fun c8 => ?_) (fun c8 => ?_)
        · have hF := hF.1 c8
          exact w_X8_every_108 X ih _ _ _ _ _ _ hF hP (lh_sub hl [1, 2, 0] rfl)
        · have hF := hF.2 c8
          refine lv_goto (tgt := 117) X.1 X.2.1 dX8_every_105 (by decide) ?_
          refine ph_aload_n (n := 1) X hl dX8_every_117 rfl rfl ?_
          refine ph_dup_r X dX8_every_118 ?_
          refine tw_geti 47 X hP q1817 dX8_every_119 ?_
          refine lv_iconst (v := 1) X.1 X.2.1 dX8_every_122 (by decide) ?_
          refine lv_iadd X.1 X.2.1 dX8_every_123 ?_
          refine tw_puti 47 X hP q1817 dX8_every_124 hF (fun H locs σ7 hP hF => ?_)
          refine lv_goto (tgt := 63) X.1 X.2.1 dX8_every_127 (by decide) ?_
          exact ih _ _ _ _ _ _ _ hF hP (lh_sub hl [1, 2, 3, 4] rfl)
set_option maxHeartbeats 2000000 in
theorem met_X8_every (l : Launch) (D : va_G) (dA : Nat → ClassId) (ad : Nat → Nat) (σ : S) (sz : Nat) {a1 : Int32} {a2 : Int32} {Q : Int32 → S → Prop} (hF : P_X8_every a1 a2 σ Q) : CTi l yX8_every cX8_every 6 .int ({ frames := 6, cells := 0, slots := 0, locals := 141 } : Room) D dA ad σ sz [pX 200, iX a1, iX a2] Q := by
  unfold P_X8_every at hF
  refine ph_enter [pX 200, iX a1, iX a2] (Qc := fun A => va_Qi (TQi Q) (CB D dA ad A) A) (by decide +kernel) (Nat.le_of_ble_eq_true rfl) ?_
  intro p e s m args below meth c A ls X hP hl hnm
  have hl : LH ad ls 6 [(0, pX 200), (1, iX a1), (2, iX a2)] := hl
  refine ph_aload_n (n := 0) X hl dX8_every_0 rfl rfl ?_
  refine lv_iconst (v := 0) X.1 X.2.1 dX8_every_1 (by decide) ?_
  refine tw_puti 2 X hP q1772 dX8_every_2 hF (fun H locs σ11 hP hF => ?_)
  refine ph_aload_n (n := 0) X hl dX8_every_5 rfl rfl ?_
  refine ph_iload_n (n := 1) X hl dX8_every_6 rfl rfl ?_
  refine tw_callVi [iX a1] X hP (met_X8_isSleeper l D dA ad _ _ hF) (cwV 1 X.2.2.2.2.1 (lw_V q2140 q2142 qs69 q126 q2143) rfl rfl rfl (by decide +kernel) ⟨Nat.le_of_ble_eq_true rfl, Nat.le_of_ble_eq_true rfl⟩) rfl hl (k8 := 0) (cs0 (k := 0)) (by decide) ⟨Nat.le_refl _, Nat.le_refl _⟩ dX8_every_7 rfl (fun r13 σ12 H locs hF hP => ?_)
  refine lv_if_eq (tgt := 22) X.1 X.2.1 dX8_every_10 (by decide) (fun c30 => ?_) (fun c30 => ?_)
  · have hF := hF.1 c30
    refine ph_aload_n (n := 0) X hl dX8_every_22 rfl rfl ?_
    refine lv_iconst (v := 1) X.1 X.2.1 dX8_every_23 (by decide) ?_
    refine tw_callVi [iX 1] X hP (met_X8_fail l D dA ad _ _ hF) (cwV 1 X.2.2.2.2.1 (lw_V q2002 q2004 qs44 q126 q2005) rfl rfl rfl (by decide +kernel) ⟨Nat.le_of_ble_eq_true rfl, Nat.le_of_ble_eq_true rfl⟩) rfl hl (k8 := 0) (cs0 (k := 0)) (by decide) ⟨Nat.le_refl _, Nat.le_refl _⟩ dX8_every_24 rfl (fun r15 σ14 H locs hF hP => ?_)
    exact tw_iret X hP hF dX8_every_27
  · have hF := hF.2 c30
    refine ph_iload_n (n := 2) X hl dX8_every_13 rfl rfl ?_
    refine lv_if_lt (tgt := 22) X.1 X.2.1 dX8_every_14 (by decide) (fun c29 => ?_) (fun c29 => ?_)
    · have hF := hF.1 c29
      refine ph_aload_n (n := 0) X hl dX8_every_22 rfl rfl ?_
      refine lv_iconst (v := 1) X.1 X.2.1 dX8_every_23 (by decide) ?_
      refine tw_callVi [iX 1] X hP (met_X8_fail l D dA ad _ _ hF) (cwV 1 X.2.2.2.2.1 (lw_V q2002 q2004 qs44 q126 q2005) rfl rfl rfl (by decide +kernel) ⟨Nat.le_of_ble_eq_true rfl, Nat.le_of_ble_eq_true rfl⟩) rfl hl (k8 := 0) (cs0 (k := 0)) (by decide) ⟨Nat.le_refl _, Nat.le_refl _⟩ dX8_every_24 rfl (fun r17 σ16 H locs hF hP => ?_)
      exact tw_iret X hP hF dX8_every_27
    · have hF := hF.2 c29
      refine ph_iload_n (n := 2) X hl dX8_every_17 rfl rfl ?_
      refine lv_iconst (v := 1) X.1 X.2.1 dX8_every_18 (by decide) ?_
      refine lv_icmp_le (tgt := 28) X.1 X.2.1 dX8_every_19 (by decide) (fun c28 => ?_) (fun c28 => ?_)
      · have hF := hF.1 c28
        refine ph_aload_n (n := 0) X hl dX8_every_28 rfl rfl ?_
        refine tw_getr 4 204 X hP q1774 dX8_every_29 ?_
        refine ph_iload_n (n := 1) X hl dX8_every_32 rfl rfl ?_
        obtain ⟨hr18, hF⟩ := hF
        refine tw_ald 4 (n := 14) X hP hr18 (k := a1.toNatClampNeg) rfl dX8_every_33 ?_
        refine lv_iconst (v := 3) X.1 X.2.1 dX8_every_34 (by decide) ?_
        refine lv_icmp_ne (tgt := 44) X.1 X.2.1 dX8_every_35 (by decide) (fun c25 => ?_) (fun c25 => ?_)
        · have hF := hF.1 c25
          refine ph_aload_n (n := 0) X hl dX8_every_44 rfl rfl ?_
          refine tw_callVv [] X hP (met_X8_set l D dA ad _ _ hF) (cwV 0 X.2.2.2.2.1 (lw_V q2128 q2130 qs67 q126 q2131) rfl rfl rfl (by decide +kernel) ⟨Nat.le_of_ble_eq_true rfl, Nat.le_of_ble_eq_true rfl⟩) rfl hl (k8 := 0) (cs0 (k := 0)) (by decide) ⟨Nat.le_refl _, Nat.le_refl _⟩ dX8_every_45 rfl (fun σ19 H locs hF hP => ?_)
          refine ph_aload_n (n := 0) X hl dX8_every_48 rfl rfl ?_
          refine ph_iload_n (n := 1) X hl dX8_every_49 rfl rfl ?_
          refine tw_puti 46 X hP q1816 dX8_every_50 hF (fun H locs σ21 hP hF => ?_)
          refine lv_iconst (v := (-1)) X.1 X.2.1 dX8_every_53 (by decide) ?_
          refine ph_istore_n X hl dX8_every_54 rfl (by decide) rfl (fun ls hl => ?_)
          refine lv_iconst (v := 0) X.1 X.2.1 dX8_every_55 (by decide) ?_
          refine ph_istore X hl dX8_every_56 (by decide) rfl (fun ls hl => ?_)
          refine ph_aload_n (n := 2) X hl dX8_every_58 rfl rfl ?_
          refine lv_iconst (v := 0) X.1 X.2.1 dX8_every_59 (by decide) ?_
          refine tw_puti 47 X hP q1817 dX8_every_60 hF (fun H locs σ22 hP hF => ?_)
          obtain ⟨n9, hF⟩ := hF
          exact w_X8_every_63 X n9 _ _ _ _ _ _ _ hF hP (lh_sub hl [2, 4, 1, 0] rfl)
        · have hF := hF.2 c25
          refine ph_aload_n (n := 0) X hl dX8_every_38 rfl rfl ?_
          refine lv_iconst (v := 2) X.1 X.2.1 dX8_every_39 (by decide) ?_
          refine tw_callVi [iX 2] X hP (met_X8_fail l D dA ad _ _ hF) (cwV 1 X.2.2.2.2.1 (lw_V q2002 q2004 qs44 q126 q2005) rfl rfl rfl (by decide +kernel) ⟨Nat.le_of_ble_eq_true rfl, Nat.le_of_ble_eq_true rfl⟩) rfl hl (k8 := 0) (cs0 (k := 0)) (by decide) ⟨Nat.le_refl _, Nat.le_refl _⟩ dX8_every_40 rfl (fun r24 σ23 H locs hF hP => ?_)
          exact tw_iret X hP hF dX8_every_43
      · have hF := hF.2 c28
        refine ph_aload_n (n := 0) X hl dX8_every_22 rfl rfl ?_
        refine lv_iconst (v := 1) X.1 X.2.1 dX8_every_23 (by decide) ?_
        refine tw_callVi [iX 1] X hP (met_X8_fail l D dA ad _ _ hF) (cwV 1 X.2.2.2.2.1 (lw_V q2002 q2004 qs44 q126 q2005) rfl rfl rfl (by decide +kernel) ⟨Nat.le_of_ble_eq_true rfl, Nat.le_of_ble_eq_true rfl⟩) rfl hl (k8 := 0) (cs0 (k := 0)) (by decide) ⟨Nat.le_refl _, Nat.le_refl _⟩ dX8_every_24 rfl (fun r27 σ26 H locs hF hP => ?_)
        exact tw_iret X hP hF dX8_every_27
def P_X8_bitsOf_4 (Q : Int32 → S → Prop) : Nat → Int32 → Int32 → S → Prop
  | 0, _, _, _ => False
  | n + 1, x1, x2, σ => ((x2 = 0 → (Q x1 σ)) ∧ (¬ x2 = 0 → (P_X8_bitsOf_4 Q  n (x1 + 1) (x2 &&& (x2 - 1)) σ)))
def P_X8_bitsOf (a0 : Int32) (σ : S) (Q : Int32 → S → Prop) : Prop := (∃ n9, P_X8_bitsOf_4 Q n9 0 a0 σ)
set_option maxHeartbeats 2000000 in
theorem w_X8_bitsOf_4 (X : CX p s m args c meth cX8_bitsOf 3 (some .int) RX8 D dA ad A) {Q : Int32 → S → Prop} : ∀ (n : Nat) (x1 : Int32) (x2 : Int32) (σ : S) (H : Heap) (locs : List Loc) (ls : Array Slot), P_X8_bitsOf_4 Q n x1 x2 σ → PW D dA A s.heap ad (TH σ) H locs → LH ad ls 3 [(1, iX x1), (2, iX x2)] → WTi p l e ({ frames := 0, cells := 0, slots := 0, locals := 0 } : Room) s m args below meth c D dA ad A Q H locs (F0 m 4 ls []) := by
  intro n
  induction n with
  | zero =>
    intro x1 x2 σ H locs ls hF
    exact hF.elim
  | succ n ih =>
    intro x1 x2 σ H locs ls hF hP hl
    rw [P_X8_bitsOf_4] at hF
    refine ph_iload_n (n := 1) X hl dX8_bitsOf_4 rfl rfl ?_
    refine lv_if_eq (tgt := 20) X.1 X.2.1 dX8_bitsOf_5 (by decide) (fun c1 => ?_) (fun c1 => ?_)
    · have hF := hF.1 c1
      refine ph_iload_n (n := 0) X hl dX8_bitsOf_20 rfl rfl ?_
      exact tw_iret X hP hF dX8_bitsOf_21
    · have hF := hF.2 c1
      refine ph_iinc (v := x1 + 1) (k := 0) X hl dX8_bitsOf_8 rfl rfl (by decide) rfl (fun ls hl => ?_)
      refine ph_iload_n (n := 1) X hl dX8_bitsOf_11 rfl rfl ?_
      refine ph_iload_n (n := 1) X hl dX8_bitsOf_12 rfl rfl ?_
      refine lv_iconst (v := 1) X.1 X.2.1 dX8_bitsOf_13 (by decide) ?_
      refine lv_isub X.1 X.2.1 dX8_bitsOf_14 ?_
      refine lv_iand X.1 X.2.1 dX8_bitsOf_15 ?_
      refine ph_istore_n X hl dX8_bitsOf_16 rfl (by decide) rfl (fun ls hl => ?_)
      refine lv_goto (tgt := 4) X.1 X.2.1 dX8_bitsOf_17 (by decide) ?_
      exact ih _ _ _ _ _ _ hF hP (lh_sub hl [1, 0] rfl)
set_option maxHeartbeats 2000000 in
theorem met_X8_bitsOf (l : Launch) (D : va_G) (dA : Nat → ClassId) (ad : Nat → Nat) (σ : S) (sz : Nat) {a0 : Int32} {Q : Int32 → S → Prop} (hF : P_X8_bitsOf a0 σ Q) : CTi l yX8_bitsOf cX8_bitsOf 3 .int ({ frames := 0, cells := 0, slots := 0, locals := 0 } : Room) D dA ad σ sz [iX a0] Q := by
  unfold P_X8_bitsOf at hF
  refine ph_enter [iX a0] (Qc := fun A => va_Qi (TQi Q) (CB D dA ad A) A) (by decide +kernel) (Nat.le_of_ble_eq_true rfl) ?_
  intro p e s m args below meth c A ls X hP hl hnm
  have hl : LH ad ls 3 [(0, iX a0)] := hl
  refine lv_iconst (v := 0) X.1 X.2.1 dX8_bitsOf_0 (by decide) ?_
  refine ph_istore_n X hl dX8_bitsOf_1 rfl (by decide) rfl (fun ls hl => ?_)
  refine ph_iload_n (n := 1) X hl dX8_bitsOf_2 rfl rfl ?_
  refine ph_istore_n X hl dX8_bitsOf_3 rfl (by decide) rfl (fun ls hl => ?_)
  obtain ⟨n9, hF⟩ := hF
  exact w_X8_bitsOf_4 X n9 _ _ _ _ _ _ hF hP (lh_sub hl [1, 0] rfl)
def P_X8_bolsters_110 (Q : Int32 → S → Prop) (k31 : Int32 → Int32 → Int32 → Int32 → S → Prop) (x1 : Int32) (x4 : Int32) (x5 : Int32) (σ : S) : Prop := (k31 x1 (2 * x4) x5 (x4 + 1) σ)
def P_X8_bolsters_31 (Q : Int32 → S → Prop) : Nat → Int32 → Int32 → Int32 → Int32 → S → Prop
  | 0, _, _, _, _, _ => False
  | n + 1, x1, x2, x3, x4, σ => (((1 <<< (((if 0 < ((σ 0 45) - 1) then (σ 0 45) - 1 else 0) : Int32) &&& 31)) ≤ x4 → ((¬ x1 = 0 → (Q x3 σ)) ∧ (x1 = 0 → (Q x2 σ)))) ∧ (¬ (1 <<< (((if 0 < ((σ 0 45) - 1) then (σ 0 45) - 1 else 0) : Int32) &&& 31)) ≤ x4 → (∀ σ2, σ2 = up2 σ 0 48 (2 * x4) → (P_X8_go (σ2 0 26) (σ2 3 3) σ2 (fun σ3 => (P_X8_allWoken σ3 (fun r6 σ5 => ((x2 = (-1) → (P_X8_bolsters_110 Q (fun z0 z1 z2 z3 z4 => P_X8_bolsters_31 Q  n z0 z1 z2 z3 z4) x1 x4 r6 σ5)) ∧ (¬ x2 = (-1) → ((x3 < r6 → (P_X8_bolsters_31 Q  n x1 x2 x3 (x4 + 1) σ5)) ∧ (¬ x3 < r6 → ((¬ r6 = x3 → (P_X8_bolsters_110 Q (fun z0 z1 z2 z3 z4 => P_X8_bolsters_31 Q  n z0 z1 z2 z3 z4) x1 x4 r6 σ5)) ∧ (r6 = x3 → (P_X8_bitsOf (2 * x4) σ5 (fun r8 σ7 => (P_X8_bitsOf x2 σ7 (fun r10 σ9 => ((r8 < r10 → (P_X8_bolsters_110 Q (fun z0 z1 z2 z3 z4 => P_X8_bolsters_31 Q  n z0 z1 z2 z3 z4) x1 x4 r6 σ9)) ∧ (¬ r8 < r10 → (P_X8_bolsters_31 Q  n x1 x2 x3 (x4 + 1) σ9))))))))))))))))))))
def P_X8_bolsters (a1 : Int32) (σ : S) (Q : Int32 → S → Prop) : Prop := (∀ σ16, σ16 = up2 σ 0 2 0 → ((a1 < 0 → (P_X8_fail 1 σ16 (fun r18 σ17 => (Q r18 σ17)))) ∧ (¬ a1 < 0 → ((a1 ≤ 1 → (P_X8_set σ16 (fun σ19 => (∃ n9, P_X8_bolsters_31 Q n9 a1 (-1) 0 0 σ19)))) ∧ (¬ a1 ≤ 1 → (P_X8_fail 1 σ16 (fun r22 σ21 => (Q r22 σ21))))))))
set_option maxHeartbeats 2000000 in
theorem w_X8_bolsters_110 (X : CX p s m args c meth cX8_bolsters 6 (some .int) RX8 D dA ad A) {Q : Int32 → S → Prop} {k31 : Int32 → Int32 → Int32 → Int32 → S → Prop} (hk31 : ∀ (x1 : Int32) (x2 : Int32) (x3 : Int32) (x4 : Int32) (σ : S) (H : Heap) (locs : List Loc) (ls : Array Slot), k31 x1 x2 x3 x4 σ → PW D dA A s.heap ad (TH σ) H locs → LH ad ls 6 [(0, pX 200), (1, iX x1), (2, iX x2), (3, iX x3), (4, iX x4)] → WTi p l e ({ frames := 6, cells := 0, slots := 0, locals := 141 } : Room) s m args below meth c D dA ad A Q H locs (F0 m 31 ls [])) : ∀ (x1 : Int32) (x4 : Int32) (x5 : Int32) (σ : S) (H : Heap) (locs : List Loc) (ls : Array Slot), P_X8_bolsters_110 Q k31 x1 x4 x5 σ → PW D dA A s.heap ad (TH σ) H locs → LH ad ls 6 [(0, pX 200), (1, iX x1), (4, iX x4), (5, iX x5)] → WTi p l e ({ frames := 6, cells := 0, slots := 0, locals := 141 } : Room) s m args below meth c D dA ad A Q H locs (F0 m 110 ls []) := by
  intro x1 x4 x5 σ H locs ls hF hP hl
  unfold P_X8_bolsters_110 at hF
  refine lv_iconst (v := 2) X.1 X.2.1 dX8_bolsters_110 (by decide) ?_
  refine ph_iload (n := 2) X hl dX8_bolsters_111 rfl ?_
  refine lv_imul X.1 X.2.1 dX8_bolsters_113 ?_
  refine ph_istore_n X hl dX8_bolsters_114 rfl (by decide) rfl (fun ls hl => ?_)
  refine ph_iload (n := 4) X hl dX8_bolsters_115 rfl ?_
  refine ph_istore_n X hl dX8_bolsters_117 rfl (by decide) rfl (fun ls hl => ?_)
  refine ph_iinc (v := x4 + 1) (k := 4) X hl dX8_bolsters_118 rfl rfl (by decide) rfl (fun ls hl => ?_)
  refine lv_goto (tgt := 31) X.1 X.2.1 dX8_bolsters_121 (by decide) ?_
  exact hk31 _ _ _ _ _ _ _ _ hF hP (lh_sub hl [3, 4, 2, 1, 0] rfl)
set_option maxHeartbeats 2000000 in
theorem w_X8_bolsters_31 (X : CX p s m args c meth cX8_bolsters 6 (some .int) RX8 D dA ad A) {Q : Int32 → S → Prop} : ∀ (n : Nat) (x1 : Int32) (x2 : Int32) (x3 : Int32) (x4 : Int32) (σ : S) (H : Heap) (locs : List Loc) (ls : Array Slot), P_X8_bolsters_31 Q n x1 x2 x3 x4 σ → PW D dA A s.heap ad (TH σ) H locs → LH ad ls 6 [(0, pX 200), (1, iX x1), (2, iX x2), (3, iX x3), (4, iX x4)] → WTi p l e ({ frames := 6, cells := 0, slots := 0, locals := 141 } : Room) s m args below meth c D dA ad A Q H locs (F0 m 31 ls []) := by
  intro n
  induction n with
  | zero =>
    intro x1 x2 x3 x4 σ H locs ls hF
    exact hF.elim
  | succ n ih =>
    intro x1 x2 x3 x4 σ H locs ls hF hP hl
    rw [P_X8_bolsters_31] at hF
    refine ph_iload (n := 4) X hl dX8_bolsters_31 rfl ?_
    refine lv_iconst (v := 1) X.1 X.2.1 dX8_bolsters_33 (by decide) ?_
    refine lv_iconst (v := 0) X.1 X.2.1 dX8_bolsters_34 (by decide) ?_
    refine ph_aload_n (n := 0) X hl dX8_bolsters_35 rfl rfl ?_
    refine tw_geti 45 X hP q1815 dX8_bolsters_36 ?_
    refine lv_iconst (v := 1) X.1 X.2.1 dX8_bolsters_39 (by decide) ?_
    refine lv_isub X.1 X.2.1 dX8_bolsters_40 ?_
    refine va_mmax X.1 X.2.1 (X.2.2.1.trans hl.1.symm) X.2.2.2.1 (X.2.2.2.2.1 _ q2247) (X.2.2.2.2.1 _ q267) (X.2.2.2.2.1 _ q112) (X.2.2.2.2.1 _ q268) (Nat.le_of_ble_eq_true rfl) (Nat.le_trans (Nat.add_le_add_right (csi (csi (cs0 (k := 0)))) 13) (Nat.le_of_ble_eq_true rfl)) (Nat.le_refl _) (Nat.le_refl _) dX8_bolsters_41 ?_
    refine lv_ishl X.1 X.2.1 dX8_bolsters_44 ?_
    refine lv_icmp_ge (tgt := 124) X.1 X.2.1 dX8_bolsters_45 (by decide) (fun c15 => ?_) (fun c15 => ?_)
    · have hF := hF.1 c15
      refine ph_iload_n (n := 1) X hl dX8_bolsters_124 rfl rfl ?_
      refine lv_if_ne (tgt := 132) X.1 X.2.1 dX8_bolsters_125 (by decide) (fun c1 => ?_) (fun c1 => ?_)
      · have hF := hF.1 c1
        refine ph_iload_n (n := 3) X hl dX8_bolsters_132 rfl rfl ?_
        exact tw_iret X hP hF dX8_bolsters_133
      · have hF := hF.2 c1
        refine ph_iload_n (n := 2) X hl dX8_bolsters_128 rfl rfl ?_
        refine lv_goto (tgt := 133) X.1 X.2.1 dX8_bolsters_129 (by decide) ?_
        exact tw_iret X hP hF dX8_bolsters_133
    · have hF := hF.2 c15
      refine ph_aload_n (n := 0) X hl dX8_bolsters_48 rfl rfl ?_
      refine lv_iconst (v := 2) X.1 X.2.1 dX8_bolsters_49 (by decide) ?_
      refine ph_iload (n := 4) X hl dX8_bolsters_50 rfl ?_
      refine lv_imul X.1 X.2.1 dX8_bolsters_52 ?_
      refine tw_puti 48 X hP q1818 dX8_bolsters_53 hF (fun H locs σ2 hP hF => ?_)
      refine ph_aload_n (n := 0) X hl dX8_bolsters_56 rfl rfl ?_
      refine ph_aload_n (n := 0) X hl dX8_bolsters_57 rfl rfl ?_
      refine tw_geti 26 X hP q1796 dX8_bolsters_58 ?_
      refine ph_aload_n (n := 0) X hl dX8_bolsters_61 rfl rfl ?_
      refine tw_getr 3 203 X hP q1773 dX8_bolsters_62 ?_
      refine lv_iconst (v := 3) X.1 X.2.1 dX8_bolsters_65 (by decide) ?_
      refine tw_ald 3 (n := 16) X hP (vin (by decide)) (k := 3) (by decide) dX8_bolsters_66 ?_
      refine tw_callVv [iX (σ2 0 26), iX (σ2 3 3)] X hP (met_X8_go l D dA ad _ _ hF) (cwV 2 X.2.2.2.2.1 (lw_V q2203 q2205 qs76 q126 q2206) rfl rfl rfl (by decide +kernel) ⟨Nat.le_of_ble_eq_true rfl, Nat.le_of_ble_eq_true rfl⟩) rfl hl (k8 := 0) (cs0 (k := 0)) (by decide) ⟨Nat.le_refl _, Nat.le_refl _⟩ dX8_bolsters_67 rfl (fun σ3 H locs hF hP => ?_)
      refine ph_aload_n (n := 0) X hl dX8_bolsters_70 rfl rfl ?_
      refine tw_callVi [] X hP (met_X8_allWoken l D dA ad _ _ hF) (cwV 0 X.2.2.2.2.1 (lw_V q2256 q2258 qs88 q126 q2259) rfl rfl rfl (by decide +kernel) ⟨Nat.le_of_ble_eq_true rfl, Nat.le_of_ble_eq_true rfl⟩) rfl hl (k8 := 0) (cs0 (k := 0)) (by decide) ⟨Nat.le_refl _, Nat.le_refl _⟩ dX8_bolsters_71 rfl (fun r6 σ5 H locs hF hP => ?_)
      refine ph_istore X hl dX8_bolsters_74 (by decide) rfl (fun ls hl => ?_)
      refine ph_iload_n (n := 3) X hl dX8_bolsters_76 rfl rfl ?_
      refine lv_iconst (v := (-1)) X.1 X.2.1 dX8_bolsters_77 (by decide) ?_
      refine lv_icmp_eq (tgt := 110) X.1 X.2.1 dX8_bolsters_78 (by decide) (fun c14 => ?_) (fun c14 => ?_)
      · have hF := hF.1 c14
        exact w_X8_bolsters_110 X ih _ _ _ _ _ _ _ hF hP (lh_sub hl [1, 2, 5, 0] rfl)
      · have hF := hF.2 c14
        refine ph_iload (n := 0) X hl dX8_bolsters_81 rfl ?_
        refine ph_iload_n (n := 4) X hl dX8_bolsters_83 rfl rfl ?_
        refine lv_icmp_gt (tgt := 118) X.1 X.2.1 dX8_bolsters_84 (by decide) (fun c13 => ?_) (fun c13 => ?_)
        · have hF := hF.1 c13
          refine ph_iinc (v := x4 + 1) (k := 5) X hl dX8_bolsters_118 rfl rfl (by decide) rfl (fun ls hl => ?_)
          refine lv_goto (tgt := 31) X.1 X.2.1 dX8_bolsters_121 (by decide) ?_
          exact ih _ _ _ _ _ _ _ _ hF hP (lh_sub hl [2, 3, 4, 5, 0] rfl)
        · have hF := hF.2 c13
          refine ph_iload (n := 0) X hl dX8_bolsters_87 rfl ?_
          refine ph_iload_n (n := 4) X hl dX8_bolsters_89 rfl rfl ?_
          refine lv_icmp_ne (tgt := 110) X.1 X.2.1 dX8_bolsters_90 (by decide) (fun c12 => ?_) (fun c12 => ?_)
          · have hF := hF.1 c12
            exact w_X8_bolsters_110 X ih _ _ _ _ _ _ _ hF hP (lh_sub hl [1, 2, 5, 0] rfl)
          · have hF := hF.2 c12
            refine lv_iconst (v := 2) X.1 X.2.1 dX8_bolsters_93 (by decide) ?_
            refine ph_iload (n := 5) X hl dX8_bolsters_94 rfl ?_
            refine lv_imul X.1 X.2.1 dX8_bolsters_96 ?_
            refine tw_callSi [iX (2 * x4)] X hP (met_X8_bitsOf l D dA ad _ _ hF) (va_cwS 1 X.2.2.2.2.1 (lw_S q2316 q2317 q126 q2318) rfl rfl rfl (by decide +kernel) ⟨Nat.le_of_ble_eq_true rfl, Nat.le_of_ble_eq_true rfl⟩) rfl hl (k8 := 0) (cs0 (k := 0)) (by decide) ⟨Nat.le_refl _, Nat.le_refl _⟩ dX8_bolsters_97 rfl (fun r8 σ7 H locs hF hP => ?_)
            refine ph_iload_n (n := 3) X hl dX8_bolsters_100 rfl rfl ?_
            refine tw_callSi [iX x2] X hP (met_X8_bitsOf l D dA ad _ _ hF) (va_cwS 1 X.2.2.2.2.1 (lw_S q2316 q2317 q126 q2318) rfl rfl rfl (by decide +kernel) ⟨Nat.le_of_ble_eq_true rfl, Nat.le_of_ble_eq_true rfl⟩) rfl hl (k8 := 1) (csi (cs0 (k := 0))) (by decide) ⟨Nat.le_refl _, Nat.le_refl _⟩ dX8_bolsters_101 rfl (fun r10 σ9 H locs hF hP => ?_)
            refine lv_icmp_lt (tgt := 110) X.1 X.2.1 dX8_bolsters_104 (by decide) (fun c11 => ?_) (fun c11 => ?_)
            · have hF := hF.1 c11
              exact w_X8_bolsters_110 X ih _ _ _ _ _ _ _ hF hP (lh_sub hl [1, 2, 5, 0] rfl)
            · have hF := hF.2 c11
              refine lv_goto (tgt := 118) X.1 X.2.1 dX8_bolsters_107 (by decide) ?_
              refine ph_iinc (v := x4 + 1) (k := 5) X hl dX8_bolsters_118 rfl rfl (by decide) rfl (fun ls hl => ?_)
              refine lv_goto (tgt := 31) X.1 X.2.1 dX8_bolsters_121 (by decide) ?_
              exact ih _ _ _ _ _ _ _ _ hF hP (lh_sub hl [2, 3, 4, 5, 0] rfl)
set_option maxHeartbeats 2000000 in
theorem met_X8_bolsters (l : Launch) (D : va_G) (dA : Nat → ClassId) (ad : Nat → Nat) (σ : S) (sz : Nat) {a1 : Int32} {Q : Int32 → S → Prop} (hF : P_X8_bolsters a1 σ Q) : CTi l yX8_bolsters cX8_bolsters 6 .int ({ frames := 6, cells := 0, slots := 0, locals := 141 } : Room) D dA ad σ sz [pX 200, iX a1] Q := by
  unfold P_X8_bolsters at hF
  refine ph_enter [pX 200, iX a1] (Qc := fun A => va_Qi (TQi Q) (CB D dA ad A) A) (by decide +kernel) (Nat.le_of_ble_eq_true rfl) ?_
  intro p e s m args below meth c A ls X hP hl hnm
  have hl : LH ad ls 6 [(0, pX 200), (1, iX a1)] := hl
  refine ph_aload_n (n := 0) X hl dX8_bolsters_0 rfl rfl ?_
  refine lv_iconst (v := 0) X.1 X.2.1 dX8_bolsters_1 (by decide) ?_
  refine tw_puti 2 X hP q1772 dX8_bolsters_2 hF (fun H locs σ16 hP hF => ?_)
  refine ph_iload_n (n := 1) X hl dX8_bolsters_5 rfl rfl ?_
  refine lv_if_lt (tgt := 14) X.1 X.2.1 dX8_bolsters_6 (by decide) (fun c24 => ?_) (fun c24 => ?_)
  · have hF := hF.1 c24
    refine ph_aload_n (n := 0) X hl dX8_bolsters_14 rfl rfl ?_
    refine lv_iconst (v := 1) X.1 X.2.1 dX8_bolsters_15 (by decide) ?_
    refine tw_callVi [iX 1] X hP (met_X8_fail l D dA ad _ _ hF) (cwV 1 X.2.2.2.2.1 (lw_V q2002 q2004 qs44 q126 q2005) rfl rfl rfl (by decide +kernel) ⟨Nat.le_of_ble_eq_true rfl, Nat.le_of_ble_eq_true rfl⟩) rfl hl (k8 := 0) (cs0 (k := 0)) (by decide) ⟨Nat.le_refl _, Nat.le_refl _⟩ dX8_bolsters_16 rfl (fun r18 σ17 H locs hF hP => ?_)
    exact tw_iret X hP hF dX8_bolsters_19
  · have hF := hF.2 c24
    refine ph_iload_n (n := 1) X hl dX8_bolsters_9 rfl rfl ?_
    refine lv_iconst (v := 1) X.1 X.2.1 dX8_bolsters_10 (by decide) ?_
    refine lv_icmp_le (tgt := 20) X.1 X.2.1 dX8_bolsters_11 (by decide) (fun c23 => ?_) (fun c23 => ?_)
    · have hF := hF.1 c23
      refine ph_aload_n (n := 0) X hl dX8_bolsters_20 rfl rfl ?_
      refine tw_callVv [] X hP (met_X8_set l D dA ad _ _ hF) (cwV 0 X.2.2.2.2.1 (lw_V q2128 q2130 qs67 q126 q2131) rfl rfl rfl (by decide +kernel) ⟨Nat.le_of_ble_eq_true rfl, Nat.le_of_ble_eq_true rfl⟩) rfl hl (k8 := 0) (cs0 (k := 0)) (by decide) ⟨Nat.le_refl _, Nat.le_refl _⟩ dX8_bolsters_21 rfl (fun σ19 H locs hF hP => ?_)
      refine lv_iconst (v := (-1)) X.1 X.2.1 dX8_bolsters_24 (by decide) ?_
      refine ph_istore_n X hl dX8_bolsters_25 rfl (by decide) rfl (fun ls hl => ?_)
      refine lv_iconst (v := 0) X.1 X.2.1 dX8_bolsters_26 (by decide) ?_
      refine ph_istore_n X hl dX8_bolsters_27 rfl (by decide) rfl (fun ls hl => ?_)
      refine lv_iconst (v := 0) X.1 X.2.1 dX8_bolsters_28 (by decide) ?_
      refine ph_istore X hl dX8_bolsters_29 (by decide) rfl (fun ls hl => ?_)
      obtain ⟨n9, hF⟩ := hF
      exact w_X8_bolsters_31 X n9 _ _ _ _ _ _ _ _ hF hP (lh_sub hl [3, 4, 2, 1, 0] rfl)
    · have hF := hF.2 c23
      refine ph_aload_n (n := 0) X hl dX8_bolsters_14 rfl rfl ?_
      refine lv_iconst (v := 1) X.1 X.2.1 dX8_bolsters_15 (by decide) ?_
      refine tw_callVi [iX 1] X hP (met_X8_fail l D dA ad _ _ hF) (cwV 1 X.2.2.2.2.1 (lw_V q2002 q2004 qs44 q126 q2005) rfl rfl rfl (by decide +kernel) ⟨Nat.le_of_ble_eq_true rfl, Nat.le_of_ble_eq_true rfl⟩) rfl hl (k8 := 0) (cs0 (k := 0)) (by decide) ⟨Nat.le_refl _, Nat.le_refl _⟩ dX8_bolsters_16 rfl (fun r22 σ21 H locs hF hP => ?_)
      exact tw_iret X hP hF dX8_bolsters_19
def P_X8_free (a1 : Int32) (σ : S) (Q : Int32 → S → Prop) : Prop := (∀ σ1, σ1 = up2 σ 0 2 0 → (P_X8_isSleeper a1 σ1 (fun r3 σ2 => ((¬ r3 = 0 → (P_X8_set σ2 (fun σ4 => (∀ σ6, σ6 = up2 σ4 0 53 1 → (P_X8_go (σ6 0 26) (σ6 3 3) σ6 (fun σ7 => (vp_in a1 7 ∧ (Q (σ7 23 a1.toNatClampNeg) σ7)))))))) ∧ (r3 = 0 → (P_X8_fail 1 σ2 (fun r11 σ10 => (Q r11 σ10))))))))
set_option maxHeartbeats 2000000 in
theorem met_X8_free (l : Launch) (D : va_G) (dA : Nat → ClassId) (ad : Nat → Nat) (σ : S) (sz : Nat) {a1 : Int32} {Q : Int32 → S → Prop} (hF : P_X8_free a1 σ Q) : CTi l yX8_free cX8_free 2 .int ({ frames := 6, cells := 0, slots := 0, locals := 141 } : Room) D dA ad σ sz [pX 200, iX a1] Q := by
  unfold P_X8_free at hF
  refine ph_enter [pX 200, iX a1] (Qc := fun A => va_Qi (TQi Q) (CB D dA ad A) A) (by decide +kernel) (Nat.le_of_ble_eq_true rfl) ?_
  intro p e s m args below meth c A ls X hP hl hnm
  have hl : LH ad ls 2 [(0, pX 200), (1, iX a1)] := hl
  refine ph_aload_n (n := 0) X hl dX8_free_0 rfl rfl ?_
  refine lv_iconst (v := 0) X.1 X.2.1 dX8_free_1 (by decide) ?_
  refine tw_puti 2 X hP q1772 dX8_free_2 hF (fun H locs σ1 hP hF => ?_)
  refine ph_aload_n (n := 0) X hl dX8_free_5 rfl rfl ?_
  refine ph_iload_n (n := 1) X hl dX8_free_6 rfl rfl ?_
  refine tw_callVi [iX a1] X hP (met_X8_isSleeper l D dA ad _ _ hF) (cwV 1 X.2.2.2.2.1 (lw_V q2140 q2142 qs69 q126 q2143) rfl rfl rfl (by decide +kernel) ⟨Nat.le_of_ble_eq_true rfl, Nat.le_of_ble_eq_true rfl⟩) rfl hl (k8 := 0) (cs0 (k := 0)) (by decide) ⟨Nat.le_refl _, Nat.le_refl _⟩ dX8_free_7 rfl (fun r3 σ2 H locs hF hP => ?_)
  refine lv_if_ne (tgt := 19) X.1 X.2.1 dX8_free_10 (by decide) (fun c12 => ?_) (fun c12 => ?_)
  · have hF := hF.1 c12
    refine ph_aload_n (n := 0) X hl dX8_free_19 rfl rfl ?_
    refine tw_callVv [] X hP (met_X8_set l D dA ad _ _ hF) (cwV 0 X.2.2.2.2.1 (lw_V q2128 q2130 qs67 q126 q2131) rfl rfl rfl (by decide +kernel) ⟨Nat.le_of_ble_eq_true rfl, Nat.le_of_ble_eq_true rfl⟩) rfl hl (k8 := 0) (cs0 (k := 0)) (by decide) ⟨Nat.le_refl _, Nat.le_refl _⟩ dX8_free_20 rfl (fun σ4 H locs hF hP => ?_)
    refine ph_aload_n (n := 0) X hl dX8_free_23 rfl rfl ?_
    refine lv_iconst (v := 1) X.1 X.2.1 dX8_free_24 (by decide) ?_
    refine tw_putz 53 X hP q1823 dX8_free_25 isB_1 hF (fun H locs σ6 hP hF => ?_)
    refine ph_aload_n (n := 0) X hl dX8_free_28 rfl rfl ?_
    refine ph_aload_n (n := 0) X hl dX8_free_29 rfl rfl ?_
    refine tw_geti 26 X hP q1796 dX8_free_30 ?_
    refine ph_aload_n (n := 0) X hl dX8_free_33 rfl rfl ?_
    refine tw_getr 3 203 X hP q1773 dX8_free_34 ?_
    refine lv_iconst (v := 3) X.1 X.2.1 dX8_free_37 (by decide) ?_
    refine tw_ald 3 (n := 16) X hP (vin (by decide)) (k := 3) (by decide) dX8_free_38 ?_
    refine tw_callVv [iX (σ6 0 26), iX (σ6 3 3)] X hP (met_X8_go l D dA ad _ _ hF) (cwV 2 X.2.2.2.2.1 (lw_V q2203 q2205 qs76 q126 q2206) rfl rfl rfl (by decide +kernel) ⟨Nat.le_of_ble_eq_true rfl, Nat.le_of_ble_eq_true rfl⟩) rfl hl (k8 := 0) (cs0 (k := 0)) (by decide) ⟨Nat.le_refl _, Nat.le_refl _⟩ dX8_free_39 rfl (fun σ7 H locs hF hP => ?_)
    refine ph_aload_n (n := 0) X hl dX8_free_42 rfl rfl ?_
    refine tw_getr 39 223 X hP q1809 dX8_free_43 ?_
    refine ph_iload_n (n := 1) X hl dX8_free_46 rfl rfl ?_
    obtain ⟨hr9, hF⟩ := hF
    refine tw_ald 23 (n := 7) X hP hr9 (k := a1.toNatClampNeg) rfl dX8_free_47 ?_
    exact tw_iret X hP hF dX8_free_48
  · have hF := hF.2 c12
    refine ph_aload_n (n := 0) X hl dX8_free_13 rfl rfl ?_
    refine lv_iconst (v := 1) X.1 X.2.1 dX8_free_14 (by decide) ?_
    refine tw_callVi [iX 1] X hP (met_X8_fail l D dA ad _ _ hF) (cwV 1 X.2.2.2.2.1 (lw_V q2002 q2004 qs44 q126 q2005) rfl rfl rfl (by decide +kernel) ⟨Nat.le_of_ble_eq_true rfl, Nat.le_of_ble_eq_true rfl⟩) rfl hl (k8 := 0) (cs0 (k := 0)) (by decide) ⟨Nat.le_refl _, Nat.le_refl _⟩ dX8_free_15 rfl (fun r11 σ10 H locs hF hP => ?_)
    exact tw_iret X hP hF dX8_free_18
def P_X8_common_4 (Q : Int32 → S → Prop) : Nat → Int32 → Int32 → S → Prop
  | 0, _, _, _ => False
  | n + 1, x2, x3, σ => ((x3 = 0 → (Q x2 σ)) ∧ (¬ x3 = 0 → (¬ x3 = 0 ∧ (P_X8_common_4 Q  n x3 (x2 - x2 / x3 * x3) σ))))
def P_X8_common (a0 : Int32) (a1 : Int32) (σ : S) (Q : Int32 → S → Prop) : Prop := (∃ n9, P_X8_common_4 Q n9 a0 a1 σ)
set_option maxHeartbeats 2000000 in
theorem w_X8_common_4 (X : CX p s m args c meth cX8_common 5 (some .int) RX8 D dA ad A) {Q : Int32 → S → Prop} : ∀ (n : Nat) (x2 : Int32) (x3 : Int32) (σ : S) (H : Heap) (locs : List Loc) (ls : Array Slot), P_X8_common_4 Q n x2 x3 σ → PW D dA A s.heap ad (TH σ) H locs → LH ad ls 5 [(2, iX x2), (3, iX x3)] → WTi p l e ({ frames := 0, cells := 0, slots := 0, locals := 0 } : Room) s m args below meth c D dA ad A Q H locs (F0 m 4 ls []) := by
  intro n
  induction n with
  | zero =>
    intro x2 x3 σ H locs ls hF
    exact hF.elim
  | succ n ih =>
    intro x2 x3 σ H locs ls hF hP hl
    rw [P_X8_common_4] at hF
    refine ph_iload_n (n := 1) X hl dX8_common_4 rfl rfl ?_
    refine lv_if_eq (tgt := 21) X.1 X.2.1 dX8_common_5 (by decide) (fun c2 => ?_) (fun c2 => ?_)
    · have hF := hF.1 c2
      refine ph_iload_n (n := 0) X hl dX8_common_21 rfl rfl ?_
      exact tw_iret X hP hF dX8_common_22
    · have hF := hF.2 c2
      refine ph_iload_n (n := 0) X hl dX8_common_8 rfl rfl ?_
      refine ph_iload_n (n := 1) X hl dX8_common_9 rfl rfl ?_
      obtain ⟨hz1, hF⟩ := hF
      refine lv_irem X.1 X.2.1 dX8_common_10 hz1 ?_
      refine ph_istore X hl dX8_common_11 (by decide) rfl (fun ls hl => ?_)
      refine ph_iload_n (n := 2) X hl dX8_common_13 rfl rfl ?_
      refine ph_istore_n X hl dX8_common_14 rfl (by decide) rfl (fun ls hl => ?_)
      refine ph_iload (n := 1) X hl dX8_common_15 rfl ?_
      refine ph_istore_n X hl dX8_common_17 rfl (by decide) rfl (fun ls hl => ?_)
      refine lv_goto (tgt := 4) X.1 X.2.1 dX8_common_18 (by decide) ?_
      exact ih _ _ _ _ _ _ hF hP (lh_sub hl [1, 0] rfl)
set_option maxHeartbeats 2000000 in
theorem met_X8_common (l : Launch) (D : va_G) (dA : Nat → ClassId) (ad : Nat → Nat) (σ : S) (sz : Nat) {a0 : Int32} {a1 : Int32} {Q : Int32 → S → Prop} (hF : P_X8_common a0 a1 σ Q) : CTi l yX8_common cX8_common 5 .int ({ frames := 0, cells := 0, slots := 0, locals := 0 } : Room) D dA ad σ sz [iX a0, iX a1] Q := by
  unfold P_X8_common at hF
  refine ph_enter [iX a0, iX a1] (Qc := fun A => va_Qi (TQi Q) (CB D dA ad A) A) (by decide +kernel) (Nat.le_of_ble_eq_true rfl) ?_
  intro p e s m args below meth c A ls X hP hl hnm
  have hl : LH ad ls 5 [(0, iX a0), (1, iX a1)] := hl
  refine ph_iload_n (n := 0) X hl dX8_common_0 rfl rfl ?_
  refine ph_istore_n X hl dX8_common_1 rfl (by decide) rfl (fun ls hl => ?_)
  refine ph_iload_n (n := 2) X hl dX8_common_2 rfl rfl ?_
  refine ph_istore_n X hl dX8_common_3 rfl (by decide) rfl (fun ls hl => ?_)
  obtain ⟨n9, hF⟩ := hF
  exact w_X8_common_4 X n9 _ _ _ _ _ _ hF hP (lh_sub hl [1, 0] rfl)
def P_X8_outs (a1 : Int32) (σ : S) (Q : Int32 → S → Prop) : Prop := (∀ σ1, σ1 = up2 σ 0 2 0 → ((a1 < 0 → (P_X8_fail 1 σ1 (fun r3 σ2 => (Q r3 σ2)))) ∧ (¬ a1 < 0 → ((a1 ≤ 1 → (P_X8_set σ1 (fun σ4 => (P_X8_tenthsNow σ4 (fun r7 σ6 => (P_X8_common 10 r7 σ6 (fun r9 σ8 => ((¬ a1 = 0 → (¬ r9 = 0 ∧ (Q (10 / r9) σ8))) ∧ (a1 = 0 → (¬ r9 = 0 ∧ (Q (r7 / r9) σ8))))))))))) ∧ (¬ a1 ≤ 1 → (P_X8_fail 1 σ1 (fun r14 σ13 => (Q r14 σ13))))))))
set_option maxHeartbeats 2000000 in
theorem met_X8_outs (l : Launch) (D : va_G) (dA : Nat → ClassId) (ad : Nat → Nat) (σ : S) (sz : Nat) {a1 : Int32} {Q : Int32 → S → Prop} (hF : P_X8_outs a1 σ Q) : CTi l yX8_outs cX8_outs 4 .int ({ frames := 2, cells := 0, slots := 0, locals := 44 } : Room) D dA ad σ sz [pX 200, iX a1] Q := by
  unfold P_X8_outs at hF
  refine ph_enter [pX 200, iX a1] (Qc := fun A => va_Qi (TQi Q) (CB D dA ad A) A) (by decide +kernel) (Nat.le_of_ble_eq_true rfl) ?_
  intro p e s m args below meth c A ls X hP hl hnm
  have hl : LH ad ls 4 [(0, pX 200), (1, iX a1)] := hl
  refine ph_aload_n (n := 0) X hl dX8_outs_0 rfl rfl ?_
  refine lv_iconst (v := 0) X.1 X.2.1 dX8_outs_1 (by decide) ?_
  refine tw_puti 2 X hP q1772 dX8_outs_2 hF (fun H locs σ1 hP hF => ?_)
  refine ph_iload_n (n := 1) X hl dX8_outs_5 rfl rfl ?_
  refine lv_if_lt (tgt := 14) X.1 X.2.1 dX8_outs_6 (by decide) (fun c16 => ?_) (fun c16 => ?_)
  · have hF := hF.1 c16
    refine ph_aload_n (n := 0) X hl dX8_outs_14 rfl rfl ?_
    refine lv_iconst (v := 1) X.1 X.2.1 dX8_outs_15 (by decide) ?_
    refine tw_callVi [iX 1] X hP (met_X8_fail l D dA ad _ _ hF) (cwV 1 X.2.2.2.2.1 (lw_V q2002 q2004 qs44 q126 q2005) rfl rfl rfl (by decide +kernel) ⟨Nat.le_of_ble_eq_true rfl, Nat.le_of_ble_eq_true rfl⟩) rfl hl (k8 := 0) (cs0 (k := 0)) (by decide) ⟨Nat.le_refl _, Nat.le_refl _⟩ dX8_outs_16 rfl (fun r3 σ2 H locs hF hP => ?_)
    exact tw_iret X hP hF dX8_outs_19
  · have hF := hF.2 c16
    refine ph_iload_n (n := 1) X hl dX8_outs_9 rfl rfl ?_
    refine lv_iconst (v := 1) X.1 X.2.1 dX8_outs_10 (by decide) ?_
    refine lv_icmp_le (tgt := 20) X.1 X.2.1 dX8_outs_11 (by decide) (fun c15 => ?_) (fun c15 => ?_)
    · have hF := hF.1 c15
      refine ph_aload_n (n := 0) X hl dX8_outs_20 rfl rfl ?_
      refine tw_callVv [] X hP (met_X8_set l D dA ad _ _ hF) (cwV 0 X.2.2.2.2.1 (lw_V q2128 q2130 qs67 q126 q2131) rfl rfl rfl (by decide +kernel) ⟨Nat.le_of_ble_eq_true rfl, Nat.le_of_ble_eq_true rfl⟩) rfl hl (k8 := 0) (cs0 (k := 0)) (by decide) ⟨Nat.le_refl _, Nat.le_refl _⟩ dX8_outs_21 rfl (fun σ4 H locs hF hP => ?_)
      refine ph_aload_n (n := 0) X hl dX8_outs_24 rfl rfl ?_
      refine tw_callVi [] X hP (met_X8_tenthsNow l D dA ad _ _ hF) (cwV 0 X.2.2.2.2.1 (lw_V q2292 q2294 qs93 q126 q2295) rfl rfl rfl (by decide +kernel) ⟨Nat.le_of_ble_eq_true rfl, Nat.le_of_ble_eq_true rfl⟩) rfl hl (k8 := 0) (cs0 (k := 0)) (by decide) ⟨Nat.le_refl _, Nat.le_refl _⟩ dX8_outs_25 rfl (fun r7 σ6 H locs hF hP => ?_)
      refine ph_istore_n X hl dX8_outs_28 rfl (by decide) rfl (fun ls hl => ?_)
      refine lv_bipush (v := 10) X.1 X.2.1 dX8_outs_29 (by decide) ?_
      refine ph_iload_n (n := 0) X hl dX8_outs_31 rfl rfl ?_
      refine tw_callSi [iX 10, iX r7] X hP (met_X8_common l D dA ad _ _ hF) (va_cwS 2 X.2.2.2.2.1 (lw_S q2327 q2328 q126 q2329) rfl rfl rfl (by decide +kernel) ⟨Nat.le_of_ble_eq_true rfl, Nat.le_of_ble_eq_true rfl⟩) rfl hl (k8 := 0) (cs0 (k := 0)) (by decide) ⟨Nat.le_refl _, Nat.le_refl _⟩ dX8_outs_32 rfl (fun r9 σ8 H locs hF hP => ?_)
      refine ph_istore_n X hl dX8_outs_35 rfl (by decide) rfl (fun ls hl => ?_)
      refine ph_iload_n (n := 3) X hl dX8_outs_36 rfl rfl ?_
      refine lv_if_ne (tgt := 46) X.1 X.2.1 dX8_outs_37 (by decide) (fun c12 => ?_) (fun c12 => ?_)
      · have hF := hF.1 c12
        refine lv_bipush (v := 10) X.1 X.2.1 dX8_outs_46 (by decide) ?_
        refine ph_iload_n (n := 0) X hl dX8_outs_48 rfl rfl ?_
        obtain ⟨hz10, hF⟩ := hF
        refine lv_idiv X.1 X.2.1 dX8_outs_49 hz10 ?_
        exact tw_iret X hP hF dX8_outs_50
      · have hF := hF.2 c12
        refine ph_iload_n (n := 1) X hl dX8_outs_40 rfl rfl ?_
        refine ph_iload_n (n := 0) X hl dX8_outs_41 rfl rfl ?_
        obtain ⟨hz11, hF⟩ := hF
        refine lv_idiv X.1 X.2.1 dX8_outs_42 hz11 ?_
        refine lv_goto (tgt := 50) X.1 X.2.1 dX8_outs_43 (by decide) ?_
        exact tw_iret X hP hF dX8_outs_50
    · have hF := hF.2 c15
      refine ph_aload_n (n := 0) X hl dX8_outs_14 rfl rfl ?_
      refine lv_iconst (v := 1) X.1 X.2.1 dX8_outs_15 (by decide) ?_
      refine tw_callVi [iX 1] X hP (met_X8_fail l D dA ad _ _ hF) (cwV 1 X.2.2.2.2.1 (lw_V q2002 q2004 qs44 q126 q2005) rfl rfl rfl (by decide +kernel) ⟨Nat.le_of_ble_eq_true rfl, Nat.le_of_ble_eq_true rfl⟩) rfl hl (k8 := 0) (cs0 (k := 0)) (by decide) ⟨Nat.le_refl _, Nat.le_refl _⟩ dX8_outs_16 rfl (fun r14 σ13 H locs hF hP => ?_)
      exact tw_iret X hP hF dX8_outs_19
def P_X8_fair_230 (Q : Int32 → S → Prop) : Nat → Int32 → Int32 → Int32 → S → Prop
  | 0, _, _, _, _ => False
  | n + 1, x3, x4, x5, σ => (((σ 0 45) ≤ x5 → (Q (x3 - x4) σ)) ∧ (¬ (σ 0 45) ≤ x5 → (P_X8_isDeaf x5 σ (fun r2 σ1 => ((r2 = 0 → (vp_in x5 7 ∧ ((¬ x4 = (-1) → (vp_in x5 7 ∧ (P_X8_fair_230 Q  n (if x3 < (σ1 31 x5.toNatClampNeg) then σ1 31 x5.toNatClampNeg else x3) (if (σ1 31 x5.toNatClampNeg) < x4 then σ1 31 x5.toNatClampNeg else x4) (x5 + 1) σ1))) ∧ (x4 = (-1) → (vp_in x5 7 ∧ (P_X8_fair_230 Q  n (if x3 < (σ1 31 x5.toNatClampNeg) then σ1 31 x5.toNatClampNeg else x3) (σ1 31 x5.toNatClampNeg) (x5 + 1) σ1)))))) ∧ (¬ r2 = 0 → (P_X8_fair_230 Q  n x3 x4 (x5 + 1) σ1)))))))
def P_X8_fair_162 (Q : Int32 → S → Prop) (k76 : Int32 → Int32 → Int32 → S → Prop) : Nat → Int32 → Int32 → Int32 → Int32 → Int32 → S → Prop
  | 0, _, _, _, _, _, _ => False
  | n + 1, x1, x2, x3, x4, x5, σ => ((x5 ≤ 0 → (((σ 0 45) ≤ 0 → (k76 x1 x2 (x3 + 1) σ)) ∧ (¬ (σ 0 45) ≤ 0 → (∀ σ9, σ9 = up2 σ 18 0 x4 → (k76 x1 x2 (x3 + 1) σ9))))) ∧ (¬ x5 ≤ 0 → (vp_in (x5 - 1) 7 ∧ (vp_in x5 7 ∧ (∀ σ12, σ12 = up2 σ 18 x5.toNatClampNeg (σ 18 ((x5 - 1).toNatClampNeg)) → (P_X8_fair_162 Q k76  n x1 x2 x3 x4 (x5 + (-1)) σ12))))))
def P_X8_fair_98 (Q : Int32 → S → Prop) (k76 : Int32 → Int32 → Int32 → S → Prop) : Nat → Int32 → Int32 → Int32 → Int32 → S → Prop
  | 0, _, _, _, _, _ => False
  | n + 1, x1, x2, x3, x4, σ => (((σ 0 45) ≤ x4 → ((¬ (σ 0 45) = 0 → (vp_in ((σ 0 45) - 1) 7 ∧ (∃ n9, P_X8_fair_162 Q k76 n9 x1 x2 x3 (σ 18 (((σ 0 45) - 1).toNatClampNeg)) ((σ 0 45) - 1) σ))) ∧ ((σ 0 45) = 0 → (∃ n9, P_X8_fair_162 Q k76 n9 x1 x2 x3 (-1) ((σ 0 45) - 1) σ)))) ∧ (¬ (σ 0 45) ≤ x4 → (vp_in x4 7 ∧ (vp_in x4 7 ∧ (vp_in x4 7 ∧ (∀ σ19, σ19 = up2 σ 31 x4.toNatClampNeg ((σ 31 x4.toNatClampNeg) + (σ 23 x4.toNatClampNeg)) → (P_X8_fair_98 Q k76  n x1 x2 x3 (x4 + 1) σ19)))))))
def P_X8_fair_76 (Q : Int32 → S → Prop) : Nat → Int32 → Int32 → Int32 → S → Prop
  | 0, _, _, _, _ => False
  | n + 1, x1, x2, x3, σ => ((x1 ≤ x3 → ((x2 = (-1) → (∃ n9, P_X8_fair_230 Q n9 (-1) (-1) 0 σ)) ∧ (¬ x2 = (-1) → (vp_in x2 7 ∧ (Q (σ 31 x2.toNatClampNeg) σ))))) ∧ (¬ x1 ≤ x3 → (P_X8_go (σ 0 26) (σ 3 3) σ (fun σ24 => (∃ n9, P_X8_fair_98 Q (fun z0 z1 z2 z3 => P_X8_fair_76 Q  n z0 z1 z2 z3) n9 x1 x2 x3 0 σ24)))))
def P_X8_fair_55 (Q : Int32 → S → Prop) : Nat → Int32 → Int32 → Int32 → S → Prop
  | 0, _, _, _, _ => False
  | n + 1, x1, x2, x3, σ => ((7 ≤ x3 → (∃ n9, P_X8_fair_76 Q n9 x1 x2 0 σ)) ∧ (¬ 7 ≤ x3 → (vp_in x3 7 ∧ (∀ σ27, σ27 = up2 σ 31 x3.toNatClampNeg 0 → (P_X8_fair_55 Q  n x1 x2 (x3 + 1) σ27)))))
def P_X8_fair (a1 : Int32) (a2 : Int32) (σ : S) (Q : Int32 → S → Prop) : Prop := (∀ σ30, σ30 = up2 σ 0 2 0 → (P_X8_isIn a2.toInt64 (-1) (((σ30 3 0) - 1).toInt64) σ30 (fun r32 σ31 => ((¬ r32 = 0 → (P_X8_isIn a1.toInt64 0 30 σ31 (fun r34 σ33 => ((¬ r34 = 0 → (P_X8_set σ33 (fun σ35 => (∃ n9, P_X8_fair_55 Q n9 a1 a2 0 σ35)))) ∧ (r34 = 0 → (P_X8_fail 2 σ33 (fun r38 σ37 => (Q r38 σ37)))))))) ∧ (r32 = 0 → (P_X8_fail 1 σ31 (fun r41 σ40 => (Q r41 σ40))))))))
set_option maxHeartbeats 2000000 in
theorem w_X8_fair_230 (X : CX p s m args c meth cX8_fair 6 (some .int) RX8 D dA ad A) {Q : Int32 → S → Prop} : ∀ (n : Nat) (x3 : Int32) (x4 : Int32) (x5 : Int32) (σ : S) (H : Heap) (locs : List Loc) (ls : Array Slot), P_X8_fair_230 Q n x3 x4 x5 σ → PW D dA A s.heap ad (TH σ) H locs → LH ad ls 6 [(0, pX 200), (3, iX x3), (4, iX x4), (5, iX x5)] → WTi p l e ({ frames := 6, cells := 0, slots := 0, locals := 141 } : Room) s m args below meth c D dA ad A Q H locs (F0 m 230 ls []) := by
  intro n
  induction n with
  | zero =>
    intro x3 x4 x5 σ H locs ls hF
    exact hF.elim
  | succ n ih =>
    intro x3 x4 x5 σ H locs ls hF hP hl
    rw [P_X8_fair_230] at hF
    refine ph_iload (n := 3) X hl dX8_fair_230 rfl ?_
    refine ph_aload_n (n := 0) X hl dX8_fair_232 rfl rfl ?_
    refine tw_geti 45 X hP q1815 dX8_fair_233 ?_
    refine lv_icmp_ge (tgt := 299) X.1 X.2.1 dX8_fair_236 (by decide) (fun c8 => ?_) (fun c8 => ?_)
    · have hF := hF.1 c8
      refine ph_iload_n (n := 1) X hl dX8_fair_299 rfl rfl ?_
      refine ph_iload (n := 2) X hl dX8_fair_300 rfl ?_
      refine lv_isub X.1 X.2.1 dX8_fair_302 ?_
      exact tw_iret X hP hF dX8_fair_303
    · have hF := hF.2 c8
      refine ph_aload_n (n := 0) X hl dX8_fair_239 rfl rfl ?_
      refine ph_iload (n := 3) X hl dX8_fair_240 rfl ?_
      refine tw_callVi [iX x5] X hP (met_X8_isDeaf l D dA ad _ _ hF) (cwV 1 X.2.2.2.2.1 (lw_V q2219 q2221 qs80 q126 q2222) rfl rfl rfl (by decide +kernel) ⟨Nat.le_of_ble_eq_true rfl, Nat.le_of_ble_eq_true rfl⟩) rfl hl (k8 := 0) (cs0 (k := 0)) (by decide) ⟨Nat.le_refl _, Nat.le_refl _⟩ dX8_fair_242 rfl (fun r2 σ1 H locs hF hP => ?_)
      refine lv_if_eq (tgt := 251) X.1 X.2.1 dX8_fair_245 (by decide) (fun c7 => ?_) (fun c7 => ?_)
      · have hF := hF.1 c7
        refine ph_iload_n (n := 1) X hl dX8_fair_251 rfl rfl ?_
        refine ph_aload_n (n := 0) X hl dX8_fair_252 rfl rfl ?_
        refine tw_getr 59 231 X hP q1829 dX8_fair_253 ?_
        refine ph_iload (n := 3) X hl dX8_fair_256 rfl ?_
        obtain ⟨hr3, hF⟩ := hF
        refine tw_ald 31 (n := 7) X hP hr3 (k := x5.toNatClampNeg) rfl dX8_fair_258 ?_
        refine va_mmax X.1 X.2.1 (X.2.2.1.trans hl.1.symm) X.2.2.2.1 (X.2.2.2.2.1 _ q2247) (X.2.2.2.2.1 _ q267) (X.2.2.2.2.1 _ q112) (X.2.2.2.2.1 _ q268) (Nat.le_of_ble_eq_true rfl) (Nat.le_trans (Nat.add_le_add_right (cs0 (k := 0)) 13) (Nat.le_of_ble_eq_true rfl)) (Nat.le_refl _) (Nat.le_refl _) dX8_fair_259 ?_
        refine ph_istore_n X hl dX8_fair_262 rfl (by decide) rfl (fun ls hl => ?_)
        refine ph_iload (n := 2) X hl dX8_fair_263 rfl ?_
        refine lv_iconst (v := (-1)) X.1 X.2.1 dX8_fair_265 (by decide) ?_
        refine lv_icmp_ne (tgt := 279) X.1 X.2.1 dX8_fair_266 (by decide) (fun c6 => ?_) (fun c6 => ?_)
        · have hF := hF.1 c6
          refine ph_iload (n := 2) X hl dX8_fair_279 rfl ?_
          refine ph_aload_n (n := 1) X hl dX8_fair_281 rfl rfl ?_
          refine tw_getr 59 231 X hP q1829 dX8_fair_282 ?_
          refine ph_iload (n := 3) X hl dX8_fair_285 rfl ?_
          obtain ⟨hr4, hF⟩ := hF
          refine tw_ald 31 (n := 7) X hP hr4 (k := x5.toNatClampNeg) rfl dX8_fair_287 ?_
          refine va_mmin X.1 X.2.1 (X.2.2.1.trans hl.1.symm) X.2.2.2.1 (X.2.2.2.2.1 _ q2021) (X.2.2.2.2.1 _ q285) (X.2.2.2.2.1 _ q112) (X.2.2.2.2.1 _ q286) (Nat.le_of_ble_eq_true rfl) (Nat.le_trans (Nat.add_le_add_right (cs0 (k := 0)) 13) (Nat.le_of_ble_eq_true rfl)) (Nat.le_refl _) (Nat.le_refl _) dX8_fair_288 ?_
          refine ph_istore X hl dX8_fair_291 (by decide) rfl (fun ls hl => ?_)
          refine ph_iinc (v := x5 + 1) (k := 3) X hl dX8_fair_293 rfl rfl (by decide) rfl (fun ls hl => ?_)
          refine lv_goto (tgt := 230) X.1 X.2.1 dX8_fair_296 (by decide) ?_
          exact ih _ _ _ _ _ _ _ hF hP (lh_sub hl [3, 2, 1, 0] rfl)
        · have hF := hF.2 c6
          refine ph_aload_n (n := 1) X hl dX8_fair_269 rfl rfl ?_
          refine tw_getr 59 231 X hP q1829 dX8_fair_270 ?_
          refine ph_iload (n := 3) X hl dX8_fair_273 rfl ?_
          obtain ⟨hr5, hF⟩ := hF
          refine tw_ald 31 (n := 7) X hP hr5 (k := x5.toNatClampNeg) rfl dX8_fair_275 ?_
          refine lv_goto (tgt := 291) X.1 X.2.1 dX8_fair_276 (by decide) ?_
          refine ph_istore X hl dX8_fair_291 (by decide) rfl (fun ls hl => ?_)
          refine ph_iinc (v := x5 + 1) (k := 3) X hl dX8_fair_293 rfl rfl (by decide) rfl (fun ls hl => ?_)
          refine lv_goto (tgt := 230) X.1 X.2.1 dX8_fair_296 (by decide) ?_
          exact ih _ _ _ _ _ _ _ hF hP (lh_sub hl [3, 2, 1, 0] rfl)
      · have hF := hF.2 c7
        refine lv_goto (tgt := 293) X.1 X.2.1 dX8_fair_248 (by decide) ?_
        refine ph_iinc (v := x5 + 1) (k := 3) X hl dX8_fair_293 rfl rfl (by decide) rfl (fun ls hl => ?_)
        refine lv_goto (tgt := 230) X.1 X.2.1 dX8_fair_296 (by decide) ?_
        exact ih _ _ _ _ _ _ _ hF hP (lh_sub hl [1, 2, 3, 0] rfl)
set_option maxHeartbeats 2000000 in
theorem w_X8_fair_162 (X : CX p s m args c meth cX8_fair 6 (some .int) RX8 D dA ad A) {Q : Int32 → S → Prop} {k76 : Int32 → Int32 → Int32 → S → Prop} (hk76 : ∀ (x1 : Int32) (x2 : Int32) (x3 : Int32) (σ : S) (H : Heap) (locs : List Loc) (ls : Array Slot), k76 x1 x2 x3 σ → PW D dA A s.heap ad (TH σ) H locs → LH ad ls 6 [(0, pX 200), (1, iX x1), (2, iX x2), (3, iX x3)] → WTi p l e ({ frames := 6, cells := 0, slots := 0, locals := 141 } : Room) s m args below meth c D dA ad A Q H locs (F0 m 76 ls [])) : ∀ (n : Nat) (x1 : Int32) (x2 : Int32) (x3 : Int32) (x4 : Int32) (x5 : Int32) (σ : S) (H : Heap) (locs : List Loc) (ls : Array Slot), P_X8_fair_162 Q k76 n x1 x2 x3 x4 x5 σ → PW D dA A s.heap ad (TH σ) H locs → LH ad ls 6 [(0, pX 200), (1, iX x1), (2, iX x2), (3, iX x3), (4, iX x4), (5, iX x5)] → WTi p l e ({ frames := 6, cells := 0, slots := 0, locals := 141 } : Room) s m args below meth c D dA ad A Q H locs (F0 m 162 ls []) := by
  intro n
  induction n with
  | zero =>
    intro x1 x2 x3 x4 x5 σ H locs ls hF
    exact hF.elim
  | succ n ih =>
    intro x1 x2 x3 x4 x5 σ H locs ls hF hP hl
    rw [P_X8_fair_162] at hF
    refine ph_iload (n := 5) X hl dX8_fair_162 rfl ?_
    refine lv_if_le (tgt := 189) X.1 X.2.1 dX8_fair_164 (by decide) (fun c14 => ?_) (fun c14 => ?_)
    · have hF := hF.1 c14
      refine ph_aload_n (n := 0) X hl dX8_fair_189 rfl rfl ?_
      refine tw_geti 45 X hP q1815 dX8_fair_190 ?_
      refine lv_if_le (tgt := 204) X.1 X.2.1 dX8_fair_193 (by decide) (fun c10 => ?_) (fun c10 => ?_)
      · have hF := hF.1 c10
        refine ph_iinc (v := x3 + 1) (k := 3) X hl dX8_fair_204 rfl rfl (by decide) rfl (fun ls hl => ?_)
        refine lv_goto (tgt := 76) X.1 X.2.1 dX8_fair_207 (by decide) ?_
        exact hk76 _ _ _ _ _ _ _ hF hP (lh_sub hl [1, 2, 3, 0] rfl)
      · have hF := hF.2 c10
        refine ph_aload_n (n := 0) X hl dX8_fair_196 rfl rfl ?_
        refine tw_getr 34 218 X hP q1804 dX8_fair_197 ?_
        refine lv_iconst (v := 0) X.1 X.2.1 dX8_fair_200 (by decide) ?_
        refine ph_iload (n := 4) X hl dX8_fair_201 rfl ?_
        refine tw_ast 18 (n := 7) X hP (vin (by decide)) (k := 0) (by decide) dX8_fair_203 hF (fun H locs σ9 hP hF => ?_)
        refine ph_iinc (v := x3 + 1) (k := 3) X hl dX8_fair_204 rfl rfl (by decide) rfl (fun ls hl => ?_)
        refine lv_goto (tgt := 76) X.1 X.2.1 dX8_fair_207 (by decide) ?_
        exact hk76 _ _ _ _ _ _ _ hF hP (lh_sub hl [1, 2, 3, 0] rfl)
    · have hF := hF.2 c14
      refine ph_aload_n (n := 0) X hl dX8_fair_167 rfl rfl ?_
      refine tw_getr 34 218 X hP q1804 dX8_fair_168 ?_
      refine ph_iload (n := 5) X hl dX8_fair_171 rfl ?_
      refine ph_aload_n (n := 0) X hl dX8_fair_173 rfl rfl ?_
      refine tw_getr 34 218 X hP q1804 dX8_fair_174 ?_
      refine ph_iload (n := 5) X hl dX8_fair_177 rfl ?_
      refine lv_iconst (v := 1) X.1 X.2.1 dX8_fair_179 (by decide) ?_
      refine lv_isub X.1 X.2.1 dX8_fair_180 ?_
      obtain ⟨hr11, hF⟩ := hF
      refine tw_ald 18 (n := 7) X hP hr11 (k := (x5 - 1).toNatClampNeg) rfl dX8_fair_181 ?_
      obtain ⟨hr13, hF⟩ := hF
      refine tw_ast 18 (n := 7) X hP hr13 (k := x5.toNatClampNeg) rfl dX8_fair_182 hF (fun H locs σ12 hP hF => ?_)
      refine ph_iinc (v := x5 + (-1)) (k := 5) X hl dX8_fair_183 rfl rfl (by decide) rfl (fun ls hl => ?_)
      refine lv_goto (tgt := 162) X.1 X.2.1 dX8_fair_186 (by decide) ?_
      exact ih _ _ _ _ _ _ _ _ _ hF hP (lh_sub hl [1, 2, 3, 4, 5, 0] rfl)
set_option maxHeartbeats 2000000 in
theorem w_X8_fair_98 (X : CX p s m args c meth cX8_fair 6 (some .int) RX8 D dA ad A) {Q : Int32 → S → Prop} {k76 : Int32 → Int32 → Int32 → S → Prop} (hk76 : ∀ (x1 : Int32) (x2 : Int32) (x3 : Int32) (σ : S) (H : Heap) (locs : List Loc) (ls : Array Slot), k76 x1 x2 x3 σ → PW D dA A s.heap ad (TH σ) H locs → LH ad ls 6 [(0, pX 200), (1, iX x1), (2, iX x2), (3, iX x3)] → WTi p l e ({ frames := 6, cells := 0, slots := 0, locals := 141 } : Room) s m args below meth c D dA ad A Q H locs (F0 m 76 ls [])) : ∀ (n : Nat) (x1 : Int32) (x2 : Int32) (x3 : Int32) (x4 : Int32) (σ : S) (H : Heap) (locs : List Loc) (ls : Array Slot), P_X8_fair_98 Q k76 n x1 x2 x3 x4 σ → PW D dA A s.heap ad (TH σ) H locs → LH ad ls 6 [(0, pX 200), (1, iX x1), (2, iX x2), (3, iX x3), (4, iX x4)] → WTi p l e ({ frames := 6, cells := 0, slots := 0, locals := 141 } : Room) s m args below meth c D dA ad A Q H locs (F0 m 98 ls []) := by
  intro n
  induction n with
  | zero =>
    intro x1 x2 x3 x4 σ H locs ls hF
    exact hF.elim
  | succ n ih =>
    intro x1 x2 x3 x4 σ H locs ls hF hP hl
    rw [P_X8_fair_98] at hF
    refine ph_iload (n := 4) X hl dX8_fair_98 rfl ?_
    refine ph_aload_n (n := 0) X hl dX8_fair_100 rfl rfl ?_
    refine tw_geti 45 X hP q1815 dX8_fair_101 ?_
    refine lv_icmp_ge (tgt := 130) X.1 X.2.1 dX8_fair_104 (by decide) (fun c21 => ?_) (fun c21 => ?_)
    · have hF := hF.1 c21
      refine ph_aload_n (n := 0) X hl dX8_fair_130 rfl rfl ?_
      refine tw_geti 45 X hP q1815 dX8_fair_131 ?_
      refine lv_if_ne (tgt := 141) X.1 X.2.1 dX8_fair_134 (by decide) (fun c16 => ?_) (fun c16 => ?_)
      · have hF := hF.1 c16
        refine ph_aload_n (n := 0) X hl dX8_fair_141 rfl rfl ?_
        refine tw_getr 34 218 X hP q1804 dX8_fair_142 ?_
        refine ph_aload_n (n := 0) X hl dX8_fair_145 rfl rfl ?_
        refine tw_geti 45 X hP q1815 dX8_fair_146 ?_
        refine lv_iconst (v := 1) X.1 X.2.1 dX8_fair_149 (by decide) ?_
        refine lv_isub X.1 X.2.1 dX8_fair_150 ?_
        obtain ⟨hr15, hF⟩ := hF
        refine tw_ald 18 (n := 7) X hP hr15 (k := ((σ 0 45) - 1).toNatClampNeg) rfl dX8_fair_151 ?_
        refine ph_istore X hl dX8_fair_152 (by decide) rfl (fun ls hl => ?_)
        refine ph_aload_n (n := 1) X hl dX8_fair_154 rfl rfl ?_
        refine tw_geti 45 X hP q1815 dX8_fair_155 ?_
        refine lv_iconst (v := 1) X.1 X.2.1 dX8_fair_158 (by decide) ?_
        refine lv_isub X.1 X.2.1 dX8_fair_159 ?_
        refine ph_istore X hl dX8_fair_160 (by decide) rfl (fun ls hl => ?_)
        obtain ⟨n9, hF⟩ := hF
        exact w_X8_fair_162 X hk76 n9 _ _ _ _ _ _ _ _ _ hF hP (lh_sub hl [2, 3, 4, 5, 1, 0] rfl)
      · have hF := hF.2 c16
        refine lv_iconst (v := (-1)) X.1 X.2.1 dX8_fair_137 (by decide) ?_
        refine lv_goto (tgt := 152) X.1 X.2.1 dX8_fair_138 (by decide) ?_
        refine ph_istore X hl dX8_fair_152 (by decide) rfl (fun ls hl => ?_)
        refine ph_aload_n (n := 1) X hl dX8_fair_154 rfl rfl ?_
        refine tw_geti 45 X hP q1815 dX8_fair_155 ?_
        refine lv_iconst (v := 1) X.1 X.2.1 dX8_fair_158 (by decide) ?_
        refine lv_isub X.1 X.2.1 dX8_fair_159 ?_
        refine ph_istore X hl dX8_fair_160 (by decide) rfl (fun ls hl => ?_)
        obtain ⟨n9, hF⟩ := hF
        exact w_X8_fair_162 X hk76 n9 _ _ _ _ _ _ _ _ _ hF hP (lh_sub hl [2, 3, 4, 5, 1, 0] rfl)
    · have hF := hF.2 c21
      refine ph_aload_n (n := 0) X hl dX8_fair_107 rfl rfl ?_
      refine tw_getr 59 231 X hP q1829 dX8_fair_108 ?_
      refine ph_iload (n := 4) X hl dX8_fair_111 rfl ?_
      refine ph_dup2_ir X dX8_fair_113 ?_
      obtain ⟨hr17, hF⟩ := hF
      refine tw_ald 31 (n := 7) X hP hr17 (k := x4.toNatClampNeg) rfl dX8_fair_114 ?_
      refine ph_aload_n (n := 0) X hl dX8_fair_115 rfl rfl ?_
      refine tw_getr 39 223 X hP q1809 dX8_fair_116 ?_
      refine ph_iload (n := 4) X hl dX8_fair_119 rfl ?_
      obtain ⟨hr18, hF⟩ := hF
      refine tw_ald 23 (n := 7) X hP hr18 (k := x4.toNatClampNeg) rfl dX8_fair_121 ?_
      refine lv_iadd X.1 X.2.1 dX8_fair_122 ?_
      obtain ⟨hr20, hF⟩ := hF
      refine tw_ast 31 (n := 7) X hP hr20 (k := x4.toNatClampNeg) rfl dX8_fair_123 hF (fun H locs σ19 hP hF => ?_)
      refine ph_iinc (v := x4 + 1) (k := 4) X hl dX8_fair_124 rfl rfl (by decide) rfl (fun ls hl => ?_)
      refine lv_goto (tgt := 98) X.1 X.2.1 dX8_fair_127 (by decide) ?_
      exact ih _ _ _ _ _ _ _ _ hF hP (lh_sub hl [1, 2, 3, 4, 0] rfl)
set_option maxHeartbeats 2000000 in
theorem w_X8_fair_76 (X : CX p s m args c meth cX8_fair 6 (some .int) RX8 D dA ad A) {Q : Int32 → S → Prop} : ∀ (n : Nat) (x1 : Int32) (x2 : Int32) (x3 : Int32) (σ : S) (H : Heap) (locs : List Loc) (ls : Array Slot), P_X8_fair_76 Q n x1 x2 x3 σ → PW D dA A s.heap ad (TH σ) H locs → LH ad ls 6 [(0, pX 200), (1, iX x1), (2, iX x2), (3, iX x3)] → WTi p l e ({ frames := 6, cells := 0, slots := 0, locals := 141 } : Room) s m args below meth c D dA ad A Q H locs (F0 m 76 ls []) := by
  intro n
  induction n with
  | zero =>
    intro x1 x2 x3 σ H locs ls hF
    exact hF.elim
  | succ n ih =>
    intro x1 x2 x3 σ H locs ls hF hP hl
    rw [P_X8_fair_76] at hF
    refine ph_iload_n (n := 3) X hl dX8_fair_76 rfl rfl ?_
    refine ph_iload_n (n := 1) X hl dX8_fair_77 rfl rfl ?_
    refine lv_icmp_ge (tgt := 210) X.1 X.2.1 dX8_fair_78 (by decide) (fun c26 => ?_) (fun c26 => ?_)
    · have hF := hF.1 c26
      refine ph_iload_n (n := 2) X hl dX8_fair_210 rfl rfl ?_
      refine lv_iconst (v := (-1)) X.1 X.2.1 dX8_fair_211 (by decide) ?_
      refine lv_icmp_eq (tgt := 222) X.1 X.2.1 dX8_fair_212 (by decide) (fun c23 => ?_) (fun c23 => ?_)
      · have hF := hF.1 c23
        refine lv_iconst (v := (-1)) X.1 X.2.1 dX8_fair_222 (by decide) ?_
        refine ph_istore_n X hl dX8_fair_223 rfl (by decide) rfl (fun ls hl => ?_)
        refine lv_iconst (v := (-1)) X.1 X.2.1 dX8_fair_224 (by decide) ?_
        refine ph_istore X hl dX8_fair_225 (by decide) rfl (fun ls hl => ?_)
        refine lv_iconst (v := 0) X.1 X.2.1 dX8_fair_227 (by decide) ?_
        refine ph_istore X hl dX8_fair_228 (by decide) rfl (fun ls hl => ?_)
        obtain ⟨n9, hF⟩ := hF
        exact w_X8_fair_230 X n9 _ _ _ _ _ _ _ hF hP (lh_sub hl [3, 2, 1, 0] rfl)
      · have hF := hF.2 c23
        refine ph_aload_n (n := 0) X hl dX8_fair_215 rfl rfl ?_
        refine tw_getr 59 231 X hP q1829 dX8_fair_216 ?_
        refine ph_iload_n (n := 2) X hl dX8_fair_219 rfl rfl ?_
        obtain ⟨hr22, hF⟩ := hF
        refine tw_ald 31 (n := 7) X hP hr22 (k := x2.toNatClampNeg) rfl dX8_fair_220 ?_
        exact tw_iret X hP hF dX8_fair_221
    · have hF := hF.2 c26
      refine ph_aload_n (n := 0) X hl dX8_fair_81 rfl rfl ?_
      refine ph_aload_n (n := 0) X hl dX8_fair_82 rfl rfl ?_
      refine tw_geti 26 X hP q1796 dX8_fair_83 ?_
      refine ph_aload_n (n := 0) X hl dX8_fair_86 rfl rfl ?_
      refine tw_getr 3 203 X hP q1773 dX8_fair_87 ?_
      refine lv_iconst (v := 3) X.1 X.2.1 dX8_fair_90 (by decide) ?_
      refine tw_ald 3 (n := 16) X hP (vin (by decide)) (k := 3) (by decide) dX8_fair_91 ?_
      refine tw_callVv [iX (σ 0 26), iX (σ 3 3)] X hP (met_X8_go l D dA ad _ _ hF) (cwV 2 X.2.2.2.2.1 (lw_V q2203 q2205 qs76 q126 q2206) rfl rfl rfl (by decide +kernel) ⟨Nat.le_of_ble_eq_true rfl, Nat.le_of_ble_eq_true rfl⟩) rfl hl (k8 := 0) (cs0 (k := 0)) (by decide) ⟨Nat.le_refl _, Nat.le_refl _⟩ dX8_fair_92 rfl (fun σ24 H locs hF hP => ?_)
      refine lv_iconst (v := 0) X.1 X.2.1 dX8_fair_95 (by decide) ?_
      refine ph_istore X hl dX8_fair_96 (by decide) rfl (fun ls hl => ?_)
      obtain ⟨n9, hF⟩ := hF
      exact w_X8_fair_98 X ih n9 _ _ _ _ _ _ _ _ hF hP (lh_sub hl [1, 2, 3, 4, 0] rfl)
set_option maxHeartbeats 2000000 in
theorem w_X8_fair_55 (X : CX p s m args c meth cX8_fair 6 (some .int) RX8 D dA ad A) {Q : Int32 → S → Prop} : ∀ (n : Nat) (x1 : Int32) (x2 : Int32) (x3 : Int32) (σ : S) (H : Heap) (locs : List Loc) (ls : Array Slot), P_X8_fair_55 Q n x1 x2 x3 σ → PW D dA A s.heap ad (TH σ) H locs → LH ad ls 6 [(0, pX 200), (1, iX x1), (2, iX x2), (3, iX x3)] → WTi p l e ({ frames := 6, cells := 0, slots := 0, locals := 141 } : Room) s m args below meth c D dA ad A Q H locs (F0 m 55 ls []) := by
  intro n
  induction n with
  | zero =>
    intro x1 x2 x3 σ H locs ls hF
    exact hF.elim
  | succ n ih =>
    intro x1 x2 x3 σ H locs ls hF hP hl
    rw [P_X8_fair_55] at hF
    refine ph_iload_n (n := 3) X hl dX8_fair_55 rfl rfl ?_
    refine lv_bipush (v := 7) X.1 X.2.1 dX8_fair_56 (by decide) ?_
    refine lv_icmp_ge (tgt := 74) X.1 X.2.1 dX8_fair_58 (by decide) (fun c29 => ?_) (fun c29 => ?_)
    · have hF := hF.1 c29
      refine lv_iconst (v := 0) X.1 X.2.1 dX8_fair_74 (by decide) ?_
      refine ph_istore_n X hl dX8_fair_75 rfl (by decide) rfl (fun ls hl => ?_)
      obtain ⟨n9, hF⟩ := hF
      exact w_X8_fair_76 X n9 _ _ _ _ _ _ _ hF hP (lh_sub hl [1, 2, 3, 0] rfl)
    · have hF := hF.2 c29
      refine ph_aload_n (n := 0) X hl dX8_fair_61 rfl rfl ?_
      refine tw_getr 59 231 X hP q1829 dX8_fair_62 ?_
      refine ph_iload_n (n := 3) X hl dX8_fair_65 rfl rfl ?_
      refine lv_iconst (v := 0) X.1 X.2.1 dX8_fair_66 (by decide) ?_
      obtain ⟨hr28, hF⟩ := hF
      refine tw_ast 31 (n := 7) X hP hr28 (k := x3.toNatClampNeg) rfl dX8_fair_67 hF (fun H locs σ27 hP hF => ?_)
      refine ph_iinc (v := x3 + 1) (k := 3) X hl dX8_fair_68 rfl rfl (by decide) rfl (fun ls hl => ?_)
      refine lv_goto (tgt := 55) X.1 X.2.1 dX8_fair_71 (by decide) ?_
      exact ih _ _ _ _ _ _ _ hF hP (lh_sub hl [1, 2, 3, 0] rfl)
set_option maxHeartbeats 2000000 in
theorem met_X8_fair (l : Launch) (D : va_G) (dA : Nat → ClassId) (ad : Nat → Nat) (σ : S) (sz : Nat) {a1 : Int32} {a2 : Int32} {Q : Int32 → S → Prop} (hF : P_X8_fair a1 a2 σ Q) : CTi l yX8_fair cX8_fair 6 .int ({ frames := 6, cells := 0, slots := 0, locals := 141 } : Room) D dA ad σ sz [pX 200, iX a1, iX a2] Q := by
  unfold P_X8_fair at hF
  refine ph_enter [pX 200, iX a1, iX a2] (Qc := fun A => va_Qi (TQi Q) (CB D dA ad A) A) (by decide +kernel) (Nat.le_of_ble_eq_true rfl) ?_
  intro p e s m args below meth c A ls X hP hl hnm
  have hl : LH ad ls 6 [(0, pX 200), (1, iX a1), (2, iX a2)] := hl
  refine ph_aload_n (n := 0) X hl dX8_fair_0 rfl rfl ?_
  refine lv_iconst (v := 0) X.1 X.2.1 dX8_fair_1 (by decide) ?_
  refine tw_puti 2 X hP q1772 dX8_fair_2 hF (fun H locs σ30 hP hF => ?_)
  refine ph_iload_n (n := 2) X hl dX8_fair_5 rfl rfl ?_
  refine lv_i2l X.1 X.2.1 dX8_fair_6 rfl ?_
  refine lv_ldc2 (v := (-1)) X.1 X.2.1 X.2.2.2.1 (X.2.2.2.2.1 _ q2338) dX8_fair_7 ?_
  refine ph_aload_n (n := 0) X hl dX8_fair_10 rfl rfl ?_
  refine tw_getr 3 203 X hP q1773 dX8_fair_11 ?_
  refine lv_iconst (v := 0) X.1 X.2.1 dX8_fair_14 (by decide) ?_
  refine tw_ald 3 (n := 16) X hP (vin (by decide)) (k := 0) (by decide) dX8_fair_15 ?_
  refine lv_iconst (v := 1) X.1 X.2.1 dX8_fair_16 (by decide) ?_
  refine lv_isub X.1 X.2.1 dX8_fair_17 ?_
  refine lv_i2l X.1 X.2.1 dX8_fair_18 rfl ?_
  refine tw_callSi [lX a2.toInt64, lX (-1), lX (((σ30 3 0) - 1).toInt64)] X hP (met_X8_isIn l D dA ad _ _ hF) (va_cwS 3 X.2.2.2.2.1 (lw_S q2144 q2145 q126 q2146) rfl rfl rfl (by decide +kernel) ⟨Nat.le_of_ble_eq_true rfl, Nat.le_of_ble_eq_true rfl⟩) rfl hl (k8 := 0) (cs0 (k := 0)) (by decide) ⟨Nat.le_refl _, Nat.le_refl _⟩ dX8_fair_19 rfl (fun r32 σ31 H locs hF hP => ?_)
  refine lv_if_ne (tgt := 31) X.1 X.2.1 dX8_fair_22 (by decide) (fun c42 => ?_) (fun c42 => ?_)
  · have hF := hF.1 c42
    refine ph_iload_n (n := 1) X hl dX8_fair_31 rfl rfl ?_
    refine lv_i2l X.1 X.2.1 dX8_fair_32 rfl ?_
    refine lv_lconst (v := 0) X.1 X.2.1 dX8_fair_33 (by decide) ?_
    refine lv_ldc2 (v := 30) X.1 X.2.1 X.2.2.2.1 (X.2.2.2.2.1 _ q2339) dX8_fair_34 ?_
    refine tw_callSi [lX a1.toInt64, lX 0, lX 30] X hP (met_X8_isIn l D dA ad _ _ hF) (va_cwS 3 X.2.2.2.2.1 (lw_S q2144 q2145 q126 q2146) rfl rfl rfl (by decide +kernel) ⟨Nat.le_of_ble_eq_true rfl, Nat.le_of_ble_eq_true rfl⟩) rfl hl (k8 := 0) (cs0 (k := 0)) (by decide) ⟨Nat.le_refl _, Nat.le_refl _⟩ dX8_fair_37 rfl (fun r34 σ33 H locs hF hP => ?_)
    refine lv_if_ne (tgt := 49) X.1 X.2.1 dX8_fair_40 (by decide) (fun c39 => ?_) (fun c39 => ?_)
    · have hF := hF.1 c39
      refine ph_aload_n (n := 0) X hl dX8_fair_49 rfl rfl ?_
      refine tw_callVv [] X hP (met_X8_set l D dA ad _ _ hF) (cwV 0 X.2.2.2.2.1 (lw_V q2128 q2130 qs67 q126 q2131) rfl rfl rfl (by decide +kernel) ⟨Nat.le_of_ble_eq_true rfl, Nat.le_of_ble_eq_true rfl⟩) rfl hl (k8 := 0) (cs0 (k := 0)) (by decide) ⟨Nat.le_refl _, Nat.le_refl _⟩ dX8_fair_50 rfl (fun σ35 H locs hF hP => ?_)
      refine lv_iconst (v := 0) X.1 X.2.1 dX8_fair_53 (by decide) ?_
      refine ph_istore_n X hl dX8_fair_54 rfl (by decide) rfl (fun ls hl => ?_)
      obtain ⟨n9, hF⟩ := hF
      exact w_X8_fair_55 X n9 _ _ _ _ _ _ _ hF hP (lh_sub hl [1, 2, 3, 0] rfl)
    · have hF := hF.2 c39
      refine ph_aload_n (n := 0) X hl dX8_fair_43 rfl rfl ?_
      refine lv_iconst (v := 2) X.1 X.2.1 dX8_fair_44 (by decide) ?_
      refine tw_callVi [iX 2] X hP (met_X8_fail l D dA ad _ _ hF) (cwV 1 X.2.2.2.2.1 (lw_V q2002 q2004 qs44 q126 q2005) rfl rfl rfl (by decide +kernel) ⟨Nat.le_of_ble_eq_true rfl, Nat.le_of_ble_eq_true rfl⟩) rfl hl (k8 := 0) (cs0 (k := 0)) (by decide) ⟨Nat.le_refl _, Nat.le_refl _⟩ dX8_fair_45 rfl (fun r38 σ37 H locs hF hP => ?_)
      exact tw_iret X hP hF dX8_fair_48
  · have hF := hF.2 c42
    refine ph_aload_n (n := 0) X hl dX8_fair_25 rfl rfl ?_
    refine lv_iconst (v := 1) X.1 X.2.1 dX8_fair_26 (by decide) ?_
    refine tw_callVi [iX 1] X hP (met_X8_fail l D dA ad _ _ hF) (cwV 1 X.2.2.2.2.1 (lw_V q2002 q2004 qs44 q126 q2005) rfl rfl rfl (by decide +kernel) ⟨Nat.le_of_ble_eq_true rfl, Nat.le_of_ble_eq_true rfl⟩) rfl hl (k8 := 0) (cs0 (k := 0)) (by decide) ⟨Nat.le_refl _, Nat.le_refl _⟩ dX8_fair_27 rfl (fun r41 σ40 H locs hF hP => ?_)
    exact tw_iret X hP hF dX8_fair_30
def P_X8_see (a1 : Int32) (a2 : Int32) (a3 : Int32) (σ : S) (Q : Int32 → S → Prop) : Prop := (∀ σ1, σ1 = up2 σ 0 2 0 → (P_X8_isSleeper a1 σ1 (fun r3 σ2 => ((¬ r3 = 0 → (((σ2 0 31) = 8 → (P_X8_refuse 2 σ2 (fun r5 σ4 => (Q r5 σ4)))) ∧ (¬ (σ2 0 31) = 8 → (vp_in a1 14 ∧ (((σ2 4 a1.toNatClampNeg) = 3 → (P_X8_refuse 2 σ2 (fun r8 σ7 => (Q r8 σ7)))) ∧ (¬ (σ2 4 a1.toNatClampNeg) = 3 → (P_X8_isIn a2.toInt64 0 600 σ2 (fun r10 σ9 => ((r10 = 0 → (P_X8_refuse 2 σ9 (fun r12 σ11 => (Q r12 σ11)))) ∧ (¬ r10 = 0 → (P_X8_isIn a3.toInt64 0 1 σ9 (fun r14 σ13 => ((¬ r14 = 0 → (vp_in (σ13 0 31) 8 ∧ (∀ σ15, σ15 = up2 σ13 32 ((σ13 0 31).toNatClampNeg) a1 → (vp_in (σ15 0 31) 8 ∧ (∀ σ17, σ17 = up2 σ15 33 ((σ15 0 31).toNatClampNeg) a2 → (vp_in (σ17 0 31) 8 ∧ (∀ σ19, σ19 = up2 σ17 34 ((σ17 0 31).toNatClampNeg) a3 → (∀ σ21, σ21 = up2 σ19 0 31 ((σ19 0 31) + 1) → (Q (σ21 0 31) σ21))))))))) ∧ (r14 = 0 → (P_X8_refuse 2 σ13 (fun r23 σ22 => (Q r23 σ22))))))))))))))))) ∧ (r3 = 0 → (P_X8_fail 1 σ2 (fun r29 σ28 => (Q r29 σ28))))))))
set_option maxHeartbeats 2000000 in
theorem met_X8_see (l : Launch) (D : va_G) (dA : Nat → ClassId) (ad : Nat → Nat) (σ : S) (sz : Nat) {a1 : Int32} {a2 : Int32} {a3 : Int32} {Q : Int32 → S → Prop} (hF : P_X8_see a1 a2 a3 σ Q) : CTi l yX8_see cX8_see 4 .int ({ frames := 2, cells := 0, slots := 0, locals := 46 } : Room) D dA ad σ sz [pX 200, iX a1, iX a2, iX a3] Q := by
  unfold P_X8_see at hF
  refine ph_enter [pX 200, iX a1, iX a2, iX a3] (Qc := fun A => va_Qi (TQi Q) (CB D dA ad A) A) (by decide +kernel) (Nat.le_of_ble_eq_true rfl) ?_
  intro p e s m args below meth c A ls X hP hl hnm
  have hl : LH ad ls 4 [(0, pX 200), (1, iX a1), (2, iX a2), (3, iX a3)] := hl
  refine ph_aload_n (n := 0) X hl dX8_see_0 rfl rfl ?_
  refine lv_iconst (v := 0) X.1 X.2.1 dX8_see_1 (by decide) ?_
  refine tw_puti 2 X hP q1772 dX8_see_2 hF (fun H locs σ1 hP hF => ?_)
  refine ph_aload_n (n := 0) X hl dX8_see_5 rfl rfl ?_
  refine ph_iload_n (n := 1) X hl dX8_see_6 rfl rfl ?_
  refine tw_callVi [iX a1] X hP (met_X8_isSleeper l D dA ad _ _ hF) (cwV 1 X.2.2.2.2.1 (lw_V q2140 q2142 qs69 q126 q2143) rfl rfl rfl (by decide +kernel) ⟨Nat.le_of_ble_eq_true rfl, Nat.le_of_ble_eq_true rfl⟩) rfl hl (k8 := 0) (cs0 (k := 0)) (by decide) ⟨Nat.le_refl _, Nat.le_refl _⟩ dX8_see_7 rfl (fun r3 σ2 H locs hF hP => ?_)
  refine lv_if_ne (tgt := 19) X.1 X.2.1 dX8_see_10 (by decide) (fun c30 => ?_) (fun c30 => ?_)
  · have hF := hF.1 c30
    refine ph_aload_n (n := 0) X hl dX8_see_19 rfl rfl ?_
    refine tw_geti 31 X hP q1801 dX8_see_20 ?_
    refine lv_bipush (v := 8) X.1 X.2.1 dX8_see_23 (by decide) ?_
    refine lv_icmp_eq (tgt := 60) X.1 X.2.1 dX8_see_25 (by decide) (fun c27 => ?_) (fun c27 => ?_)
    · have hF := hF.1 c27
      refine ph_aload_n (n := 0) X hl dX8_see_60 rfl rfl ?_
      refine lv_iconst (v := 2) X.1 X.2.1 dX8_see_61 (by decide) ?_
      refine tw_callVi [iX 2] X hP (met_X8_refuse l D dA ad _ _ hF) (cwV 1 X.2.2.2.2.1 (lw_V q2167 q2169 qs73 q126 q2170) rfl rfl rfl (by decide +kernel) ⟨Nat.le_of_ble_eq_true rfl, Nat.le_of_ble_eq_true rfl⟩) rfl hl (k8 := 0) (cs0 (k := 0)) (by decide) ⟨Nat.le_refl _, Nat.le_refl _⟩ dX8_see_62 rfl (fun r5 σ4 H locs hF hP => ?_)
      exact tw_iret X hP hF dX8_see_65
    · have hF := hF.2 c27
      refine ph_aload_n (n := 0) X hl dX8_see_28 rfl rfl ?_
      refine tw_getr 4 204 X hP q1774 dX8_see_29 ?_
      refine ph_iload_n (n := 1) X hl dX8_see_32 rfl rfl ?_
      obtain ⟨hr6, hF⟩ := hF
      refine tw_ald 4 (n := 14) X hP hr6 (k := a1.toNatClampNeg) rfl dX8_see_33 ?_
      refine lv_iconst (v := 3) X.1 X.2.1 dX8_see_34 (by decide) ?_
      refine lv_icmp_eq (tgt := 60) X.1 X.2.1 dX8_see_35 (by decide) (fun c26 => ?_) (fun c26 => ?_)
      · have hF := hF.1 c26
        refine ph_aload_n (n := 0) X hl dX8_see_60 rfl rfl ?_
        refine lv_iconst (v := 2) X.1 X.2.1 dX8_see_61 (by decide) ?_
        refine tw_callVi [iX 2] X hP (met_X8_refuse l D dA ad _ _ hF) (cwV 1 X.2.2.2.2.1 (lw_V q2167 q2169 qs73 q126 q2170) rfl rfl rfl (by decide +kernel) ⟨Nat.le_of_ble_eq_true rfl, Nat.le_of_ble_eq_true rfl⟩) rfl hl (k8 := 0) (cs0 (k := 0)) (by decide) ⟨Nat.le_refl _, Nat.le_refl _⟩ dX8_see_62 rfl (fun r8 σ7 H locs hF hP => ?_)
        exact tw_iret X hP hF dX8_see_65
      · have hF := hF.2 c26
        refine ph_iload_n (n := 2) X hl dX8_see_38 rfl rfl ?_
        refine lv_i2l X.1 X.2.1 dX8_see_39 rfl ?_
        refine lv_lconst (v := 0) X.1 X.2.1 dX8_see_40 (by decide) ?_
        refine lv_ldc2 (v := 600) X.1 X.2.1 X.2.2.2.1 (X.2.2.2.2.1 _ q2185) dX8_see_41 ?_
        refine tw_callSi [lX a2.toInt64, lX 0, lX 600] X hP (met_X8_isIn l D dA ad _ _ hF) (va_cwS 3 X.2.2.2.2.1 (lw_S q2144 q2145 q126 q2146) rfl rfl rfl (by decide +kernel) ⟨Nat.le_of_ble_eq_true rfl, Nat.le_of_ble_eq_true rfl⟩) rfl hl (k8 := 0) (cs0 (k := 0)) (by decide) ⟨Nat.le_refl _, Nat.le_refl _⟩ dX8_see_44 rfl (fun r10 σ9 H locs hF hP => ?_)
        refine lv_if_eq (tgt := 60) X.1 X.2.1 dX8_see_47 (by decide) (fun c25 => ?_) (fun c25 => ?_)
        · have hF := hF.1 c25
          refine ph_aload_n (n := 0) X hl dX8_see_60 rfl rfl ?_
          refine lv_iconst (v := 2) X.1 X.2.1 dX8_see_61 (by decide) ?_
          refine tw_callVi [iX 2] X hP (met_X8_refuse l D dA ad _ _ hF) (cwV 1 X.2.2.2.2.1 (lw_V q2167 q2169 qs73 q126 q2170) rfl rfl rfl (by decide +kernel) ⟨Nat.le_of_ble_eq_true rfl, Nat.le_of_ble_eq_true rfl⟩) rfl hl (k8 := 0) (cs0 (k := 0)) (by decide) ⟨Nat.le_refl _, Nat.le_refl _⟩ dX8_see_62 rfl (fun r12 σ11 H locs hF hP => ?_)
          exact tw_iret X hP hF dX8_see_65
        · have hF := hF.2 c25
          refine ph_iload_n (n := 3) X hl dX8_see_50 rfl rfl ?_
          refine lv_i2l X.1 X.2.1 dX8_see_51 rfl ?_
          refine lv_lconst (v := 0) X.1 X.2.1 dX8_see_52 (by decide) ?_
          refine lv_lconst (v := 1) X.1 X.2.1 dX8_see_53 (by decide) ?_
          refine tw_callSi [lX a3.toInt64, lX 0, lX 1] X hP (met_X8_isIn l D dA ad _ _ hF) (va_cwS 3 X.2.2.2.2.1 (lw_S q2144 q2145 q126 q2146) rfl rfl rfl (by decide +kernel) ⟨Nat.le_of_ble_eq_true rfl, Nat.le_of_ble_eq_true rfl⟩) rfl hl (k8 := 0) (cs0 (k := 0)) (by decide) ⟨Nat.le_refl _, Nat.le_refl _⟩ dX8_see_54 rfl (fun r14 σ13 H locs hF hP => ?_)
          refine lv_if_ne (tgt := 66) X.1 X.2.1 dX8_see_57 (by decide) (fun c24 => ?_) (fun c24 => ?_)
          · have hF := hF.1 c24
            refine ph_aload_n (n := 0) X hl dX8_see_66 rfl rfl ?_
            refine tw_getr 60 232 X hP q1830 dX8_see_67 ?_
            refine ph_aload_n (n := 0) X hl dX8_see_70 rfl rfl ?_
            refine tw_geti 31 X hP q1801 dX8_see_71 ?_
            refine ph_iload_n (n := 1) X hl dX8_see_74 rfl rfl ?_
            obtain ⟨hr16, hF⟩ := hF
            refine tw_ast 32 (n := 8) X hP hr16 (k := (σ13 0 31).toNatClampNeg) rfl dX8_see_75 hF (fun H locs σ15 hP hF => ?_)
            refine ph_aload_n (n := 0) X hl dX8_see_76 rfl rfl ?_
            refine tw_getr 61 233 X hP q1831 dX8_see_77 ?_
            refine ph_aload_n (n := 0) X hl dX8_see_80 rfl rfl ?_
            refine tw_geti 31 X hP q1801 dX8_see_81 ?_
            refine ph_iload_n (n := 2) X hl dX8_see_84 rfl rfl ?_
            obtain ⟨hr18, hF⟩ := hF
            refine tw_ast 33 (n := 8) X hP hr18 (k := (σ15 0 31).toNatClampNeg) rfl dX8_see_85 hF (fun H locs σ17 hP hF => ?_)
            refine ph_aload_n (n := 0) X hl dX8_see_86 rfl rfl ?_
            refine tw_getr 62 234 X hP q1832 dX8_see_87 ?_
            refine ph_aload_n (n := 0) X hl dX8_see_90 rfl rfl ?_
            refine tw_geti 31 X hP q1801 dX8_see_91 ?_
            refine ph_iload_n (n := 3) X hl dX8_see_94 rfl rfl ?_
            obtain ⟨hr20, hF⟩ := hF
            refine tw_ast 34 (n := 8) X hP hr20 (k := (σ17 0 31).toNatClampNeg) rfl dX8_see_95 hF (fun H locs σ19 hP hF => ?_)
            refine ph_aload_n (n := 0) X hl dX8_see_96 rfl rfl ?_
            refine ph_dup_r X dX8_see_97 ?_
            refine tw_geti 31 X hP q1801 dX8_see_98 ?_
            refine lv_iconst (v := 1) X.1 X.2.1 dX8_see_101 (by decide) ?_
            refine lv_iadd X.1 X.2.1 dX8_see_102 ?_
            refine tw_puti 31 X hP q1801 dX8_see_103 hF (fun H locs σ21 hP hF => ?_)
            refine ph_aload_n (n := 0) X hl dX8_see_106 rfl rfl ?_
            refine tw_geti 31 X hP q1801 dX8_see_107 ?_
            exact tw_iret X hP hF dX8_see_110
          · have hF := hF.2 c24
            refine ph_aload_n (n := 0) X hl dX8_see_60 rfl rfl ?_
            refine lv_iconst (v := 2) X.1 X.2.1 dX8_see_61 (by decide) ?_
            refine tw_callVi [iX 2] X hP (met_X8_refuse l D dA ad _ _ hF) (cwV 1 X.2.2.2.2.1 (lw_V q2167 q2169 qs73 q126 q2170) rfl rfl rfl (by decide +kernel) ⟨Nat.le_of_ble_eq_true rfl, Nat.le_of_ble_eq_true rfl⟩) rfl hl (k8 := 0) (cs0 (k := 0)) (by decide) ⟨Nat.le_refl _, Nat.le_refl _⟩ dX8_see_62 rfl (fun r23 σ22 H locs hF hP => ?_)
            exact tw_iret X hP hF dX8_see_65
  · have hF := hF.2 c30
    refine ph_aload_n (n := 0) X hl dX8_see_13 rfl rfl ?_
    refine lv_iconst (v := 1) X.1 X.2.1 dX8_see_14 (by decide) ?_
    refine tw_callVi [iX 1] X hP (met_X8_fail l D dA ad _ _ hF) (cwV 1 X.2.2.2.2.1 (lw_V q2002 q2004 qs44 q126 q2005) rfl rfl rfl (by decide +kernel) ⟨Nat.le_of_ble_eq_true rfl, Nat.le_of_ble_eq_true rfl⟩) rfl hl (k8 := 0) (cs0 (k := 0)) (by decide) ⟨Nat.le_refl _, Nat.le_refl _⟩ dX8_see_15 rfl (fun r29 σ28 H locs hF hP => ?_)
    exact tw_iret X hP hF dX8_see_18
def P_X8_forget  (σ : S) (Q : Int32 → S → Prop) : Prop := (∀ σ1, σ1 = up2 σ 0 2 0 → ((¬ (σ1 0 31) = 0 → (∀ σ2, σ2 = up2 σ1 0 31 ((σ1 0 31) - 1) → (Q (σ2 0 31) σ2))) ∧ ((σ1 0 31) = 0 → (Q (-1) σ1))))
set_option maxHeartbeats 2000000 in
theorem met_X8_forget (l : Launch) (D : va_G) (dA : Nat → ClassId) (ad : Nat → Nat) (σ : S) (sz : Nat) {Q : Int32 → S → Prop} (hF : P_X8_forget  σ Q) : CTi l yX8_forget cX8_forget 1 .int ({ frames := 0, cells := 0, slots := 0, locals := 0 } : Room) D dA ad σ sz [pX 200] Q := by
  unfold P_X8_forget at hF
  refine ph_enter [pX 200] (Qc := fun A => va_Qi (TQi Q) (CB D dA ad A) A) (by decide +kernel) (Nat.le_of_ble_eq_true rfl) ?_
  intro p e s m args below meth c A ls X hP hl hnm
  have hl : LH ad ls 1 [(0, pX 200)] := hl
  refine ph_aload_n (n := 0) X hl dX8_forget_0 rfl rfl ?_
  refine lv_iconst (v := 0) X.1 X.2.1 dX8_forget_1 (by decide) ?_
  refine tw_puti 2 X hP q1772 dX8_forget_2 hF (fun H locs σ1 hP hF => ?_)
  refine ph_aload_n (n := 0) X hl dX8_forget_5 rfl rfl ?_
  refine tw_geti 31 X hP q1801 dX8_forget_6 ?_
  refine lv_if_ne (tgt := 14) X.1 X.2.1 dX8_forget_9 (by decide) (fun c3 => ?_) (fun c3 => ?_)
  · have hF := hF.1 c3
    refine ph_aload_n (n := 0) X hl dX8_forget_14 rfl rfl ?_
    refine ph_dup_r X dX8_forget_15 ?_
    refine tw_geti 31 X hP q1801 dX8_forget_16 ?_
    refine lv_iconst (v := 1) X.1 X.2.1 dX8_forget_19 (by decide) ?_
    refine lv_isub X.1 X.2.1 dX8_forget_20 ?_
    refine tw_puti 31 X hP q1801 dX8_forget_21 hF (fun H locs σ2 hP hF => ?_)
    refine ph_aload_n (n := 0) X hl dX8_forget_24 rfl rfl ?_
    refine tw_geti 31 X hP q1801 dX8_forget_25 ?_
    exact tw_iret X hP hF dX8_forget_28
  · have hF := hF.2 c3
    refine lv_iconst (v := (-1)) X.1 X.2.1 dX8_forget_12 (by decide) ?_
    exact tw_iret X hP hF dX8_forget_13
def P_X8_isAsSeen_2 (Q : Int32 → S → Prop) : Nat → Int32 → Int32 → S → Prop
  | 0, _, _, _ => False
  | n + 1, x1, x2, σ => (((σ 0 31) ≤ x2 → (Q 1 σ)) ∧ (¬ (σ 0 31) ≤ x2 → (vp_in x2 8 ∧ (P_X8_go x1 (if (σ 3 3) < (σ 33 x2.toNatClampNeg) then σ 3 3 else σ 33 x2.toNatClampNeg) σ (fun σ2 => (vp_in x2 8 ∧ (vp_in (σ2 32 x2.toNatClampNeg) 7 ∧ (vp_in x2 8 ∧ (((σ2 20 ((σ2 32 x2.toNatClampNeg).toNatClampNeg)) = (σ2 34 x2.toNatClampNeg) → (P_X8_isAsSeen_2 Q  n x1 (x2 + 1) σ2)) ∧ (¬ (σ2 20 ((σ2 32 x2.toNatClampNeg).toNatClampNeg)) = (σ2 34 x2.toNatClampNeg) → (Q 0 σ2)))))))))))
def P_X8_isAsSeen (a1 : Int32) (σ : S) (Q : Int32 → S → Prop) : Prop := (∃ n9, P_X8_isAsSeen_2 Q n9 a1 0 σ)
set_option maxHeartbeats 2000000 in
theorem w_X8_isAsSeen_2 (X : CX p s m args c meth cX8_isAsSeen 3 (some .boolean) RX8 D dA ad A) {Q : Int32 → S → Prop} : ∀ (n : Nat) (x1 : Int32) (x2 : Int32) (σ : S) (H : Heap) (locs : List Loc) (ls : Array Slot), P_X8_isAsSeen_2 Q n x1 x2 σ → PW D dA A s.heap ad (TH σ) H locs → LH ad ls 3 [(0, pX 200), (1, iX x1), (2, iX x2)] → WTi p l e ({ frames := 6, cells := 0, slots := 0, locals := 141 } : Room) s m args below meth c D dA ad A Q H locs (F0 m 2 ls []) := by
  intro n
  induction n with
  | zero =>
    intro x1 x2 σ H locs ls hF
    exact hF.elim
  | succ n ih =>
    intro x1 x2 σ H locs ls hF hP hl
    rw [P_X8_isAsSeen_2] at hF
    refine ph_iload_n (n := 2) X hl dX8_isAsSeen_2 rfl rfl ?_
    refine ph_aload_n (n := 0) X hl dX8_isAsSeen_3 rfl rfl ?_
    refine tw_geti 31 X hP q1801 dX8_isAsSeen_4 ?_
    refine lv_icmp_ge (tgt := 58) X.1 X.2.1 dX8_isAsSeen_7 (by decide) (fun c8 => ?_) (fun c8 => ?_)
    · have hF := hF.1 c8
      refine lv_iconst (v := 1) X.1 X.2.1 dX8_isAsSeen_58 (by decide) ?_
      exact tw_zret X hP isB_1 hF dX8_isAsSeen_59
    · have hF := hF.2 c8
      refine ph_aload_n (n := 0) X hl dX8_isAsSeen_10 rfl rfl ?_
      refine ph_iload_n (n := 1) X hl dX8_isAsSeen_11 rfl rfl ?_
      refine ph_aload_n (n := 0) X hl dX8_isAsSeen_12 rfl rfl ?_
      refine tw_getr 61 233 X hP q1831 dX8_isAsSeen_13 ?_
      refine ph_iload_n (n := 2) X hl dX8_isAsSeen_16 rfl rfl ?_
      obtain ⟨hr1, hF⟩ := hF
      refine tw_ald 33 (n := 8) X hP hr1 (k := x2.toNatClampNeg) rfl dX8_isAsSeen_17 ?_
      refine ph_aload_n (n := 0) X hl dX8_isAsSeen_18 rfl rfl ?_
      refine tw_getr 3 203 X hP q1773 dX8_isAsSeen_19 ?_
      refine lv_iconst (v := 3) X.1 X.2.1 dX8_isAsSeen_22 (by decide) ?_
      refine tw_ald 3 (n := 16) X hP (vin (by decide)) (k := 3) (by decide) dX8_isAsSeen_23 ?_
      refine va_mmin X.1 X.2.1 (X.2.2.1.trans hl.1.symm) X.2.2.2.1 (X.2.2.2.2.1 _ q2021) (X.2.2.2.2.1 _ q285) (X.2.2.2.2.1 _ q112) (X.2.2.2.2.1 _ q286) (Nat.le_of_ble_eq_true rfl) (Nat.le_trans (Nat.add_le_add_right (csi (csr (cs0 (k := 0)))) 13) (Nat.le_of_ble_eq_true rfl)) (Nat.le_refl _) (Nat.le_refl _) dX8_isAsSeen_24 ?_
      refine tw_callVv [iX x1, iX (if (σ 3 3) < (σ 33 x2.toNatClampNeg) then σ 3 3 else σ 33 x2.toNatClampNeg)] X hP (met_X8_go l D dA ad _ _ hF) (cwV 2 X.2.2.2.2.1 (lw_V q2203 q2205 qs76 q126 q2206) rfl rfl rfl (by decide +kernel) ⟨Nat.le_of_ble_eq_true rfl, Nat.le_of_ble_eq_true rfl⟩) rfl hl (k8 := 0) (cs0 (k := 0)) (by decide) ⟨Nat.le_refl _, Nat.le_refl _⟩ dX8_isAsSeen_27 rfl (fun σ2 H locs hF hP => ?_)
      refine ph_aload_n (n := 0) X hl dX8_isAsSeen_30 rfl rfl ?_
      refine tw_getr 36 220 X hP q1806 dX8_isAsSeen_31 ?_
      refine ph_aload_n (n := 0) X hl dX8_isAsSeen_34 rfl rfl ?_
      refine tw_getr 60 232 X hP q1830 dX8_isAsSeen_35 ?_
      refine ph_iload_n (n := 2) X hl dX8_isAsSeen_38 rfl rfl ?_
      obtain ⟨hr4, hF⟩ := hF
      refine tw_ald 32 (n := 8) X hP hr4 (k := x2.toNatClampNeg) rfl dX8_isAsSeen_39 ?_
      obtain ⟨hr5, hF⟩ := hF
      refine tw_ald 20 (n := 7) X hP hr5 (k := (σ2 32 x2.toNatClampNeg).toNatClampNeg) rfl dX8_isAsSeen_40 ?_
      refine ph_aload_n (n := 0) X hl dX8_isAsSeen_41 rfl rfl ?_
      refine tw_getr 62 234 X hP q1832 dX8_isAsSeen_42 ?_
      refine ph_iload_n (n := 2) X hl dX8_isAsSeen_45 rfl rfl ?_
      obtain ⟨hr6, hF⟩ := hF
      refine tw_ald 34 (n := 8) X hP hr6 (k := x2.toNatClampNeg) rfl dX8_isAsSeen_46 ?_
      refine lv_icmp_eq (tgt := 52) X.1 X.2.1 dX8_isAsSeen_47 (by decide) (fun c7 => ?_) (fun c7 => ?_)
      · have hF := hF.1 c7
        refine ph_iinc (v := x2 + 1) (k := 2) X hl dX8_isAsSeen_52 rfl rfl (by decide) rfl (fun ls hl => ?_)
        refine lv_goto (tgt := 2) X.1 X.2.1 dX8_isAsSeen_55 (by decide) ?_
        exact ih _ _ _ _ _ _ hF hP (lh_sub hl [1, 2, 0] rfl)
      · have hF := hF.2 c7
        refine lv_iconst (v := 0) X.1 X.2.1 dX8_isAsSeen_50 (by decide) ?_
        exact tw_zret X hP isB_0 hF dX8_isAsSeen_51
set_option maxHeartbeats 2000000 in
theorem met_X8_isAsSeen (l : Launch) (D : va_G) (dA : Nat → ClassId) (ad : Nat → Nat) (σ : S) (sz : Nat) {a1 : Int32} {Q : Int32 → S → Prop} (hF : P_X8_isAsSeen a1 σ Q) : CTi l yX8_isAsSeen cX8_isAsSeen 3 .boolean ({ frames := 6, cells := 0, slots := 0, locals := 141 } : Room) D dA ad σ sz [pX 200, iX a1] Q := by
  unfold P_X8_isAsSeen at hF
  refine ph_enter [pX 200, iX a1] (Qc := fun A => va_Qi (TQi Q) (CB D dA ad A) A) (by decide +kernel) (Nat.le_of_ble_eq_true rfl) ?_
  intro p e s m args below meth c A ls X hP hl hnm
  have hl : LH ad ls 3 [(0, pX 200), (1, iX a1)] := hl
  refine lv_iconst (v := 0) X.1 X.2.1 dX8_isAsSeen_0 (by decide) ?_
  refine ph_istore_n X hl dX8_isAsSeen_1 rfl (by decide) rfl (fun ls hl => ?_)
  obtain ⟨n9, hF⟩ := hF
  exact w_X8_isAsSeen_2 X n9 _ _ _ _ _ _ hF hP (lh_sub hl [1, 2, 0] rfl)
def P_X8_fits_80 (Q : Int32 → S → Prop) (k31 : Int32 → Int32 → Int32 → Int32 → S → Prop) (k40 : Int32 → Int32 → Int32 → Int32 → Int32 → S → Prop) (y1 : Int32) (x1 : Int32) (x2 : Int32) (x3 : Int32) (x4 : Int32) (x5 : Int32) (σ : S) : Prop := (∀ σ1, σ1 = up2 σ 0 46 y1 → (∀ σ2, σ2 = up2 σ1 0 47 x5 → (P_X8_isAsSeen x4 σ2 (fun r4 σ3 => ((¬ r4 = 0 → ((¬ x3 = (-1) → (k40 x1 (x2 + 1) x3 x4 (x5 + 1) σ3)) ∧ (x3 = (-1) → (k40 x1 (x2 + 1) ((100 * x4) + x5) x4 (x5 + 1) σ3)))) ∧ (r4 = 0 → (k40 x1 x2 x3 x4 (x5 + 1) σ3)))))))
def P_X8_fits_60 (Q : Int32 → S → Prop) (k31 : Int32 → Int32 → Int32 → Int32 → S → Prop) (k40 : Int32 → Int32 → Int32 → Int32 → Int32 → S → Prop) (x1 : Int32) (x2 : Int32) (x3 : Int32) (x4 : Int32) (x5 : Int32) (σ : S) : Prop := (P_X8_fits_80 Q k31 k40 (-1) x1 x2 x3 x4 x5 σ)
def P_X8_fits_40 (Q : Int32 → S → Prop) (k31 : Int32 → Int32 → Int32 → Int32 → S → Prop) : Nat → Int32 → Int32 → Int32 → Int32 → Int32 → S → Prop
  | 0, _, _, _, _, _, _ => False
  | n + 1, x1, x2, x3, x4, x5, σ => ((60 < x5 → (k31 x1 x2 x3 (x4 + 1) σ)) ∧ (¬ 60 < x5 → ((x5 = 0 → (P_X8_fits_60 Q k31 (fun z0 z1 z2 z3 z4 z5 => P_X8_fits_40 Q k31  n z0 z1 z2 z3 z4 z5) x1 x2 x3 x4 x5 σ)) ∧ (¬ x5 = 0 → ((¬ (σ 0 45) = 0 → ((¬ (σ 0 27) = (-1) → (P_X8_fits_80 Q k31 (fun z0 z1 z2 z3 z4 z5 => P_X8_fits_40 Q k31  n z0 z1 z2 z3 z4 z5) (σ 0 27) x1 x2 x3 x4 x5 σ)) ∧ ((σ 0 27) = (-1) → (P_X8_fits_80 Q k31 (fun z0 z1 z2 z3 z4 z5 => P_X8_fits_40 Q k31  n z0 z1 z2 z3 z4 z5) 0 x1 x2 x3 x4 x5 σ)))) ∧ ((σ 0 45) = 0 → (P_X8_fits_60 Q k31 (fun z0 z1 z2 z3 z4 z5 => P_X8_fits_40 Q k31  n z0 z1 z2 z3 z4 z5) x1 x2 x3 x4 x5 σ)))))))
def P_X8_fits_31 (Q : Int32 → S → Prop) : Nat → Int32 → Int32 → Int32 → Int32 → S → Prop
  | 0, _, _, _, _, _ => False
  | n + 1, x1, x2, x3, x4, σ => ((2 ≤ x4 → ((¬ x1 = 0 → (Q x3 σ)) ∧ (x1 = 0 → (Q x2 σ)))) ∧ (¬ 2 ≤ x4 → (∃ n9, P_X8_fits_40 Q (fun z0 z1 z2 z3 z4 => P_X8_fits_31 Q  n z0 z1 z2 z3 z4) n9 x1 x2 x3 x4 0 σ)))
def P_X8_fits (a1 : Int32) (σ : S) (Q : Int32 → S → Prop) : Prop := (∀ σ13, σ13 = up2 σ 0 2 0 → ((a1 < 0 → (P_X8_fail 1 σ13 (fun r15 σ14 => (Q r15 σ14)))) ∧ (¬ a1 < 0 → ((a1 ≤ 1 → (P_X8_set σ13 (fun σ16 => (∃ n9, P_X8_fits_31 Q n9 a1 0 (-1) 0 σ16)))) ∧ (¬ a1 ≤ 1 → (P_X8_fail 1 σ13 (fun r19 σ18 => (Q r19 σ18))))))))
set_option maxHeartbeats 2000000 in
theorem w_X8_fits_80 (X : CX p s m args c meth cX8_fits 6 (some .int) RX8 D dA ad A) {Q : Int32 → S → Prop} {k31 : Int32 → Int32 → Int32 → Int32 → S → Prop} {k40 : Int32 → Int32 → Int32 → Int32 → Int32 → S → Prop} (hk31 : ∀ (x1 : Int32) (x2 : Int32) (x3 : Int32) (x4 : Int32) (σ : S) (H : Heap) (locs : List Loc) (ls : Array Slot), k31 x1 x2 x3 x4 σ → PW D dA A s.heap ad (TH σ) H locs → LH ad ls 6 [(0, pX 200), (1, iX x1), (2, iX x2), (3, iX x3), (4, iX x4)] → WTi p l e ({ frames := 7, cells := 0, slots := 0, locals := 163 } : Room) s m args below meth c D dA ad A Q H locs (F0 m 31 ls [])) (hk40 : ∀ (x1 : Int32) (x2 : Int32) (x3 : Int32) (x4 : Int32) (x5 : Int32) (σ : S) (H : Heap) (locs : List Loc) (ls : Array Slot), k40 x1 x2 x3 x4 x5 σ → PW D dA A s.heap ad (TH σ) H locs → LH ad ls 6 [(0, pX 200), (1, iX x1), (2, iX x2), (3, iX x3), (4, iX x4), (5, iX x5)] → WTi p l e ({ frames := 7, cells := 0, slots := 0, locals := 163 } : Room) s m args below meth c D dA ad A Q H locs (F0 m 40 ls [])) : ∀ (y1 : Int32) (x1 : Int32) (x2 : Int32) (x3 : Int32) (x4 : Int32) (x5 : Int32) (σ : S) (H : Heap) (locs : List Loc) (ls : Array Slot), P_X8_fits_80 Q k31 k40 y1 x1 x2 x3 x4 x5 σ → PW D dA A s.heap ad (TH σ) H locs → LH ad ls 6 [(0, pX 200), (1, iX x1), (2, iX x2), (3, iX x3), (4, iX x4), (5, iX x5)] → WTi p l e ({ frames := 7, cells := 0, slots := 0, locals := 163 } : Room) s m args below meth c D dA ad A Q H locs (F0 m 80 ls [.int y1, rv ad 200]) := by
  intro y1 x1 x2 x3 x4 x5 σ H locs ls hF hP hl
  unfold P_X8_fits_80 at hF
  refine tw_puti 46 X hP q1816 dX8_fits_80 hF (fun H locs σ1 hP hF => ?_)
  refine ph_aload_n (n := 0) X hl dX8_fits_83 rfl rfl ?_
  refine ph_iload (n := 5) X hl dX8_fits_84 rfl ?_
  refine tw_puti 47 X hP q1817 dX8_fits_86 hF (fun H locs σ2 hP hF => ?_)
  refine ph_aload_n (n := 0) X hl dX8_fits_89 rfl rfl ?_
  refine ph_iload (n := 4) X hl dX8_fits_90 rfl ?_
  refine tw_callVi [iX x4] X hP (met_X8_isAsSeen l D dA ad _ _ hF) (cwV 1 X.2.2.2.2.1 (lw_V q2352 q2354 qs95 q126 q2355) rfl rfl rfl (by decide +kernel) ⟨Nat.le_of_ble_eq_true rfl, Nat.le_of_ble_eq_true rfl⟩) rfl hl (k8 := 0) (cs0 (k := 0)) (by decide) ⟨Nat.le_refl _, Nat.le_refl _⟩ dX8_fits_92 rfl (fun r4 σ3 H locs hF hP => ?_)
  refine lv_if_ne (tgt := 101) X.1 X.2.1 dX8_fits_95 (by decide) (fun c6 => ?_) (fun c6 => ?_)
  · have hF := hF.1 c6
    refine ph_iinc (v := x2 + 1) (k := 2) X hl dX8_fits_101 rfl rfl (by decide) rfl (fun ls hl => ?_)
    refine ph_iload_n (n := 3) X hl dX8_fits_104 rfl rfl ?_
    refine lv_iconst (v := (-1)) X.1 X.2.1 dX8_fits_105 (by decide) ?_
    refine lv_icmp_ne (tgt := 120) X.1 X.2.1 dX8_fits_106 (by decide) (fun c5 => ?_) (fun c5 => ?_)
    · have hF := hF.1 c5
      refine ph_iload_n (n := 3) X hl dX8_fits_120 rfl rfl ?_
      refine ph_istore_n X hl dX8_fits_121 rfl (by decide) rfl (fun ls hl => ?_)
      refine ph_iinc (v := x5 + 1) (k := 5) X hl dX8_fits_122 rfl rfl (by decide) rfl (fun ls hl => ?_)
      refine lv_goto (tgt := 40) X.1 X.2.1 dX8_fits_125 (by decide) ?_
      exact hk40 _ _ _ _ _ _ _ _ _ hF hP (lh_sub hl [3, 4, 2, 1, 5, 0] rfl)
    · have hF := hF.2 c5
      refine lv_bipush (v := 100) X.1 X.2.1 dX8_fits_109 (by decide) ?_
      refine ph_iload (n := 4) X hl dX8_fits_111 rfl ?_
      refine lv_imul X.1 X.2.1 dX8_fits_113 ?_
      refine ph_iload (n := 5) X hl dX8_fits_114 rfl ?_
      refine lv_iadd X.1 X.2.1 dX8_fits_116 ?_
      refine lv_goto (tgt := 121) X.1 X.2.1 dX8_fits_117 (by decide) ?_
      refine ph_istore_n X hl dX8_fits_121 rfl (by decide) rfl (fun ls hl => ?_)
      refine ph_iinc (v := x5 + 1) (k := 5) X hl dX8_fits_122 rfl rfl (by decide) rfl (fun ls hl => ?_)
      refine lv_goto (tgt := 40) X.1 X.2.1 dX8_fits_125 (by decide) ?_
      exact hk40 _ _ _ _ _ _ _ _ _ hF hP (lh_sub hl [3, 4, 2, 1, 5, 0] rfl)
  · have hF := hF.2 c6
    refine lv_goto (tgt := 122) X.1 X.2.1 dX8_fits_98 (by decide) ?_
    refine ph_iinc (v := x5 + 1) (k := 5) X hl dX8_fits_122 rfl rfl (by decide) rfl (fun ls hl => ?_)
    refine lv_goto (tgt := 40) X.1 X.2.1 dX8_fits_125 (by decide) ?_
    exact hk40 _ _ _ _ _ _ _ _ _ hF hP (lh_sub hl [1, 2, 3, 4, 5, 0] rfl)
set_option maxHeartbeats 2000000 in
theorem w_X8_fits_60 (X : CX p s m args c meth cX8_fits 6 (some .int) RX8 D dA ad A) {Q : Int32 → S → Prop} {k31 : Int32 → Int32 → Int32 → Int32 → S → Prop} {k40 : Int32 → Int32 → Int32 → Int32 → Int32 → S → Prop} (hk31 : ∀ (x1 : Int32) (x2 : Int32) (x3 : Int32) (x4 : Int32) (σ : S) (H : Heap) (locs : List Loc) (ls : Array Slot), k31 x1 x2 x3 x4 σ → PW D dA A s.heap ad (TH σ) H locs → LH ad ls 6 [(0, pX 200), (1, iX x1), (2, iX x2), (3, iX x3), (4, iX x4)] → WTi p l e ({ frames := 7, cells := 0, slots := 0, locals := 163 } : Room) s m args below meth c D dA ad A Q H locs (F0 m 31 ls [])) (hk40 : ∀ (x1 : Int32) (x2 : Int32) (x3 : Int32) (x4 : Int32) (x5 : Int32) (σ : S) (H : Heap) (locs : List Loc) (ls : Array Slot), k40 x1 x2 x3 x4 x5 σ → PW D dA A s.heap ad (TH σ) H locs → LH ad ls 6 [(0, pX 200), (1, iX x1), (2, iX x2), (3, iX x3), (4, iX x4), (5, iX x5)] → WTi p l e ({ frames := 7, cells := 0, slots := 0, locals := 163 } : Room) s m args below meth c D dA ad A Q H locs (F0 m 40 ls [])) : ∀ (x1 : Int32) (x2 : Int32) (x3 : Int32) (x4 : Int32) (x5 : Int32) (σ : S) (H : Heap) (locs : List Loc) (ls : Array Slot), P_X8_fits_60 Q k31 k40 x1 x2 x3 x4 x5 σ → PW D dA A s.heap ad (TH σ) H locs → LH ad ls 6 [(0, pX 200), (1, iX x1), (2, iX x2), (3, iX x3), (4, iX x4), (5, iX x5)] → WTi p l e ({ frames := 7, cells := 0, slots := 0, locals := 163 } : Room) s m args below meth c D dA ad A Q H locs (F0 m 60 ls [rv ad 200]) := by
  intro x1 x2 x3 x4 x5 σ H locs ls hF hP hl
  unfold P_X8_fits_60 at hF
  refine lv_iconst (v := (-1)) X.1 X.2.1 dX8_fits_60 (by decide) ?_
  refine lv_goto (tgt := 80) X.1 X.2.1 dX8_fits_61 (by decide) ?_
  exact w_X8_fits_80 X hk31 hk40 _ _ _ _ _ _ _ _ _ _ hF hP hl
set_option maxHeartbeats 2000000 in
theorem w_X8_fits_40 (X : CX p s m args c meth cX8_fits 6 (some .int) RX8 D dA ad A) {Q : Int32 → S → Prop} {k31 : Int32 → Int32 → Int32 → Int32 → S → Prop} (hk31 : ∀ (x1 : Int32) (x2 : Int32) (x3 : Int32) (x4 : Int32) (σ : S) (H : Heap) (locs : List Loc) (ls : Array Slot), k31 x1 x2 x3 x4 σ → PW D dA A s.heap ad (TH σ) H locs → LH ad ls 6 [(0, pX 200), (1, iX x1), (2, iX x2), (3, iX x3), (4, iX x4)] → WTi p l e ({ frames := 7, cells := 0, slots := 0, locals := 163 } : Room) s m args below meth c D dA ad A Q H locs (F0 m 31 ls [])) : ∀ (n : Nat) (x1 : Int32) (x2 : Int32) (x3 : Int32) (x4 : Int32) (x5 : Int32) (σ : S) (H : Heap) (locs : List Loc) (ls : Array Slot), P_X8_fits_40 Q k31 n x1 x2 x3 x4 x5 σ → PW D dA A s.heap ad (TH σ) H locs → LH ad ls 6 [(0, pX 200), (1, iX x1), (2, iX x2), (3, iX x3), (4, iX x4), (5, iX x5)] → WTi p l e ({ frames := 7, cells := 0, slots := 0, locals := 163 } : Room) s m args below meth c D dA ad A Q H locs (F0 m 40 ls []) := by
  intro n
  induction n with
  | zero =>
    intro x1 x2 x3 x4 x5 σ H locs ls hF
    exact hF.elim
  | succ n ih =>
    intro x1 x2 x3 x4 x5 σ H locs ls hF hP hl
    rw [P_X8_fits_40] at hF
    refine ph_iload (n := 5) X hl dX8_fits_40 rfl ?_
    refine lv_bipush (v := 60) X.1 X.2.1 dX8_fits_42 (by decide) ?_
    refine lv_icmp_gt (tgt := 128) X.1 X.2.1 dX8_fits_44 (by decide) (fun c10 => ?_) (fun c10 => ?_)
    · have hF := hF.1 c10
      refine ph_iinc (v := x4 + 1) (k := 4) X hl dX8_fits_128 rfl rfl (by decide) rfl (fun ls hl => ?_)
      refine lv_goto (tgt := 31) X.1 X.2.1 dX8_fits_131 (by decide) ?_
      exact hk31 _ _ _ _ _ _ _ _ hF hP (lh_sub hl [1, 2, 3, 4, 0] rfl)
    · have hF := hF.2 c10
      refine ph_aload_n (n := 0) X hl dX8_fits_47 rfl rfl ?_
      refine ph_iload (n := 5) X hl dX8_fits_48 rfl ?_
      refine lv_if_eq (tgt := 60) X.1 X.2.1 dX8_fits_50 (by decide) (fun c9 => ?_) (fun c9 => ?_)
      · have hF := hF.1 c9
        exact w_X8_fits_60 X hk31 ih _ _ _ _ _ _ _ _ _ hF hP hl
      · have hF := hF.2 c9
        refine ph_aload_n (n := 0) X hl dX8_fits_53 rfl rfl ?_
        refine tw_geti 45 X hP q1815 dX8_fits_54 ?_
        refine lv_if_ne (tgt := 64) X.1 X.2.1 dX8_fits_57 (by decide) (fun c8 => ?_) (fun c8 => ?_)
        · have hF := hF.1 c8
          refine ph_aload_n (n := 0) X hl dX8_fits_64 rfl rfl ?_
          refine tw_geti 27 X hP q1797 dX8_fits_65 ?_
          refine lv_iconst (v := (-1)) X.1 X.2.1 dX8_fits_68 (by decide) ?_
          refine lv_icmp_ne (tgt := 76) X.1 X.2.1 dX8_fits_69 (by decide) (fun c7 => ?_) (fun c7 => ?_)
          · have hF := hF.1 c7
            refine ph_aload_n (n := 0) X hl dX8_fits_76 rfl rfl ?_
            refine tw_geti 27 X hP q1797 dX8_fits_77 ?_
            exact w_X8_fits_80 X hk31 ih _ _ _ _ _ _ _ _ _ _ hF hP hl
          · have hF := hF.2 c7
            refine lv_iconst (v := 0) X.1 X.2.1 dX8_fits_72 (by decide) ?_
            refine lv_goto (tgt := 80) X.1 X.2.1 dX8_fits_73 (by decide) ?_
            exact w_X8_fits_80 X hk31 ih _ _ _ _ _ _ _ _ _ _ hF hP hl
        · have hF := hF.2 c8
          exact w_X8_fits_60 X hk31 ih _ _ _ _ _ _ _ _ _ hF hP hl
set_option maxHeartbeats 2000000 in
theorem w_X8_fits_31 (X : CX p s m args c meth cX8_fits 6 (some .int) RX8 D dA ad A) {Q : Int32 → S → Prop} : ∀ (n : Nat) (x1 : Int32) (x2 : Int32) (x3 : Int32) (x4 : Int32) (σ : S) (H : Heap) (locs : List Loc) (ls : Array Slot), P_X8_fits_31 Q n x1 x2 x3 x4 σ → PW D dA A s.heap ad (TH σ) H locs → LH ad ls 6 [(0, pX 200), (1, iX x1), (2, iX x2), (3, iX x3), (4, iX x4)] → WTi p l e ({ frames := 7, cells := 0, slots := 0, locals := 163 } : Room) s m args below meth c D dA ad A Q H locs (F0 m 31 ls []) := by
  intro n
  induction n with
  | zero =>
    intro x1 x2 x3 x4 σ H locs ls hF
    exact hF.elim
  | succ n ih =>
    intro x1 x2 x3 x4 σ H locs ls hF hP hl
    rw [P_X8_fits_31] at hF
    refine ph_iload (n := 4) X hl dX8_fits_31 rfl ?_
    refine lv_iconst (v := 2) X.1 X.2.1 dX8_fits_33 (by decide) ?_
    refine lv_icmp_ge (tgt := 134) X.1 X.2.1 dX8_fits_34 (by decide) (fun c12 => ?_) (fun c12 => ?_)
    · have hF := hF.1 c12
      refine ph_iload_n (n := 1) X hl dX8_fits_134 rfl rfl ?_
      refine lv_if_ne (tgt := 142) X.1 X.2.1 dX8_fits_135 (by decide) (fun c11 => ?_) (fun c11 => ?_)
      · have hF := hF.1 c11
        refine ph_iload_n (n := 3) X hl dX8_fits_142 rfl rfl ?_
        exact tw_iret X hP hF dX8_fits_143
      · have hF := hF.2 c11
        refine ph_iload_n (n := 2) X hl dX8_fits_138 rfl rfl ?_
        refine lv_goto (tgt := 143) X.1 X.2.1 dX8_fits_139 (by decide) ?_
        exact tw_iret X hP hF dX8_fits_143
    · have hF := hF.2 c12
      refine lv_iconst (v := 0) X.1 X.2.1 dX8_fits_37 (by decide) ?_
      refine ph_istore X hl dX8_fits_38 (by decide) rfl (fun ls hl => ?_)
      obtain ⟨n9, hF⟩ := hF
      exact w_X8_fits_40 X ih n9 _ _ _ _ _ _ _ _ _ hF hP (lh_sub hl [1, 2, 3, 4, 5, 0] rfl)
set_option maxHeartbeats 2000000 in
theorem met_X8_fits (l : Launch) (D : va_G) (dA : Nat → ClassId) (ad : Nat → Nat) (σ : S) (sz : Nat) {a1 : Int32} {Q : Int32 → S → Prop} (hF : P_X8_fits a1 σ Q) : CTi l yX8_fits cX8_fits 6 .int ({ frames := 7, cells := 0, slots := 0, locals := 163 } : Room) D dA ad σ sz [pX 200, iX a1] Q := by
  unfold P_X8_fits at hF
  refine ph_enter [pX 200, iX a1] (Qc := fun A => va_Qi (TQi Q) (CB D dA ad A) A) (by decide +kernel) (Nat.le_of_ble_eq_true rfl) ?_
  intro p e s m args below meth c A ls X hP hl hnm
  have hl : LH ad ls 6 [(0, pX 200), (1, iX a1)] := hl
  refine ph_aload_n (n := 0) X hl dX8_fits_0 rfl rfl ?_
  refine lv_iconst (v := 0) X.1 X.2.1 dX8_fits_1 (by decide) ?_
  refine tw_puti 2 X hP q1772 dX8_fits_2 hF (fun H locs σ13 hP hF => ?_)
  refine ph_iload_n (n := 1) X hl dX8_fits_5 rfl rfl ?_
  refine lv_if_lt (tgt := 14) X.1 X.2.1 dX8_fits_6 (by decide) (fun c21 => ?_) (fun c21 => ?_)
  · have hF := hF.1 c21
    refine ph_aload_n (n := 0) X hl dX8_fits_14 rfl rfl ?_
    refine lv_iconst (v := 1) X.1 X.2.1 dX8_fits_15 (by decide) ?_
    refine tw_callVi [iX 1] X hP (met_X8_fail l D dA ad _ _ hF) (cwV 1 X.2.2.2.2.1 (lw_V q2002 q2004 qs44 q126 q2005) rfl rfl rfl (by decide +kernel) ⟨Nat.le_of_ble_eq_true rfl, Nat.le_of_ble_eq_true rfl⟩) rfl hl (k8 := 0) (cs0 (k := 0)) (by decide) ⟨Nat.le_refl _, Nat.le_refl _⟩ dX8_fits_16 rfl (fun r15 σ14 H locs hF hP => ?_)
    exact tw_iret X hP hF dX8_fits_19
  · have hF := hF.2 c21
    refine ph_iload_n (n := 1) X hl dX8_fits_9 rfl rfl ?_
    refine lv_iconst (v := 1) X.1 X.2.1 dX8_fits_10 (by decide) ?_
    refine lv_icmp_le (tgt := 20) X.1 X.2.1 dX8_fits_11 (by decide) (fun c20 => ?_) (fun c20 => ?_)
    · have hF := hF.1 c20
      refine ph_aload_n (n := 0) X hl dX8_fits_20 rfl rfl ?_
      refine tw_callVv [] X hP (met_X8_set l D dA ad _ _ hF) (cwV 0 X.2.2.2.2.1 (lw_V q2128 q2130 qs67 q126 q2131) rfl rfl rfl (by decide +kernel) ⟨Nat.le_of_ble_eq_true rfl, Nat.le_of_ble_eq_true rfl⟩) rfl hl (k8 := 0) (cs0 (k := 0)) (by decide) ⟨Nat.le_refl _, Nat.le_refl _⟩ dX8_fits_21 rfl (fun σ16 H locs hF hP => ?_)
      refine lv_iconst (v := 0) X.1 X.2.1 dX8_fits_24 (by decide) ?_
      refine ph_istore_n X hl dX8_fits_25 rfl (by decide) rfl (fun ls hl => ?_)
      refine lv_iconst (v := (-1)) X.1 X.2.1 dX8_fits_26 (by decide) ?_
      refine ph_istore_n X hl dX8_fits_27 rfl (by decide) rfl (fun ls hl => ?_)
      refine lv_iconst (v := 0) X.1 X.2.1 dX8_fits_28 (by decide) ?_
      refine ph_istore X hl dX8_fits_29 (by decide) rfl (fun ls hl => ?_)
      obtain ⟨n9, hF⟩ := hF
      exact w_X8_fits_31 X n9 _ _ _ _ _ _ _ _ hF hP (lh_sub hl [3, 4, 2, 1, 0] rfl)
    · have hF := hF.2 c20
      refine ph_aload_n (n := 0) X hl dX8_fits_14 rfl rfl ?_
      refine lv_iconst (v := 1) X.1 X.2.1 dX8_fits_15 (by decide) ?_
      refine tw_callVi [iX 1] X hP (met_X8_fail l D dA ad _ _ hF) (cwV 1 X.2.2.2.2.1 (lw_V q2002 q2004 qs44 q126 q2005) rfl rfl rfl (by decide +kernel) ⟨Nat.le_of_ble_eq_true rfl, Nat.le_of_ble_eq_true rfl⟩) rfl hl (k8 := 0) (cs0 (k := 0)) (by decide) ⟨Nat.le_refl _, Nat.le_refl _⟩ dX8_fits_16 rfl (fun r19 σ18 H locs hF hP => ?_)
      exact tw_iret X hP hF dX8_fits_19
def P_X8_without_102 (Q : Int32 → S → Prop) (x2 : Int32) (σ : S) : Prop := (P_X8_tellFree σ (fun σ1 => (P_X8_go (σ1 0 26) (σ1 3 3) σ1 (fun σ3 => (P_X8_allWoken σ3 (fun r6 σ5 => (Q (x2 - r6) σ5)))))))
def P_X8_without_58 (Q : Int32 → S → Prop) : Nat → Int32 → Int32 → Int32 → S → Prop
  | 0, _, _, _, _ => False
  | n + 1, x1, x2, x4, σ => (((σ 0 45) ≤ x4 → ((¬ (σ 0 46) = x1 → (P_X8_without_102 Q x2 σ)) ∧ ((σ 0 46) = x1 → (∀ σ7, σ7 = up2 σ 0 46 (-1) → (P_X8_without_102 Q x2 σ7))))) ∧ (¬ (σ 0 45) ≤ x4 → (vp_in (x4 + 1) 7 ∧ (vp_in x4 7 ∧ (∀ σ10, σ10 = up2 σ 18 x4.toNatClampNeg (σ 18 ((x4 + 1).toNatClampNeg)) → (P_X8_without_58 Q  n x1 x2 (x4 + 1) σ10))))))
def P_X8_without (a1 : Int32) (σ : S) (Q : Int32 → S → Prop) : Prop := (∀ σ13, σ13 = up2 σ 0 2 0 → (P_X8_isSleeper a1 σ13 (fun r15 σ14 => ((¬ r15 = 0 → (P_X8_nightNow σ14 (fun σ16 => (P_X8_allWoken σ16 (fun r19 σ18 => (vp_in a1 7 ∧ (P_X8_set σ18 (fun σ21 => (P_X8_placeOf a1 σ21 (fun r24 σ23 => (∀ σ25, σ25 = up2 σ23 0 45 ((σ23 0 45) - 1) → (∃ n9, P_X8_without_58 Q n9 a1 (r19 - (σ18 23 a1.toNatClampNeg)) r24 σ25)))))))))))) ∧ (r15 = 0 → (P_X8_fail 1 σ14 (fun r27 σ26 => (Q r27 σ26))))))))
set_option maxHeartbeats 2000000 in
theorem w_X8_without_102 (X : CX p s m args c meth cX8_without 5 (some .int) RX8 D dA ad A) {Q : Int32 → S → Prop} : ∀ (x2 : Int32) (σ : S) (H : Heap) (locs : List Loc) (ls : Array Slot), P_X8_without_102 Q x2 σ → PW D dA A s.heap ad (TH σ) H locs → LH ad ls 5 [(0, pX 200), (2, iX x2)] → WTi p l e ({ frames := 7, cells := 0, slots := 0, locals := 161 } : Room) s m args below meth c D dA ad A Q H locs (F0 m 102 ls []) := by
  intro x2 σ H locs ls hF hP hl
  unfold P_X8_without_102 at hF
  refine ph_aload_n (n := 0) X hl dX8_without_102 rfl rfl ?_
  refine tw_callVv [] X hP (met_X8_tellFree l D dA ad _ _ hF) (cwV 0 X.2.2.2.2.1 (lw_V q2132 q2134 qs68 q126 q2135) rfl rfl rfl (by decide +kernel) ⟨Nat.le_of_ble_eq_true rfl, Nat.le_of_ble_eq_true rfl⟩) rfl hl (k8 := 0) (cs0 (k := 0)) (by decide) ⟨Nat.le_refl _, Nat.le_refl _⟩ dX8_without_103 rfl (fun σ1 H locs hF hP => ?_)
  refine ph_aload_n (n := 0) X hl dX8_without_106 rfl rfl ?_
  refine ph_aload_n (n := 0) X hl dX8_without_107 rfl rfl ?_
  refine tw_geti 26 X hP q1796 dX8_without_108 ?_
  refine ph_aload_n (n := 0) X hl dX8_without_111 rfl rfl ?_
  refine tw_getr 3 203 X hP q1773 dX8_without_112 ?_
  refine lv_iconst (v := 3) X.1 X.2.1 dX8_without_115 (by decide) ?_
  refine tw_ald 3 (n := 16) X hP (vin (by decide)) (k := 3) (by decide) dX8_without_116 ?_
  refine tw_callVv [iX (σ1 0 26), iX (σ1 3 3)] X hP (met_X8_go l D dA ad _ _ hF) (cwV 2 X.2.2.2.2.1 (lw_V q2203 q2205 qs76 q126 q2206) rfl rfl rfl (by decide +kernel) ⟨Nat.le_of_ble_eq_true rfl, Nat.le_of_ble_eq_true rfl⟩) rfl hl (k8 := 0) (cs0 (k := 0)) (by decide) ⟨Nat.le_refl _, Nat.le_refl _⟩ dX8_without_117 rfl (fun σ3 H locs hF hP => ?_)
  refine ph_iload_n (n := 1) X hl dX8_without_120 rfl rfl ?_
  refine ph_aload_n (n := 0) X hl dX8_without_121 rfl rfl ?_
  refine tw_callVi [] X hP (met_X8_allWoken l D dA ad _ _ hF) (cwV 0 X.2.2.2.2.1 (lw_V q2256 q2258 qs88 q126 q2259) rfl rfl rfl (by decide +kernel) ⟨Nat.le_of_ble_eq_true rfl, Nat.le_of_ble_eq_true rfl⟩) rfl hl (k8 := 1) (csi (cs0 (k := 0))) (by decide) ⟨Nat.le_refl _, Nat.le_refl _⟩ dX8_without_122 rfl (fun r6 σ5 H locs hF hP => ?_)
  refine lv_isub X.1 X.2.1 dX8_without_125 ?_
  exact tw_iret X hP hF dX8_without_126
set_option maxHeartbeats 2000000 in
theorem w_X8_without_58 (X : CX p s m args c meth cX8_without 5 (some .int) RX8 D dA ad A) {Q : Int32 → S → Prop} : ∀ (n : Nat) (x1 : Int32) (x2 : Int32) (x4 : Int32) (σ : S) (H : Heap) (locs : List Loc) (ls : Array Slot), P_X8_without_58 Q n x1 x2 x4 σ → PW D dA A s.heap ad (TH σ) H locs → LH ad ls 5 [(0, pX 200), (1, iX x1), (2, iX x2), (4, iX x4)] → WTi p l e ({ frames := 7, cells := 0, slots := 0, locals := 161 } : Room) s m args below meth c D dA ad A Q H locs (F0 m 58 ls []) := by
  intro n
  induction n with
  | zero =>
    intro x1 x2 x4 σ H locs ls hF
    exact hF.elim
  | succ n ih =>
    intro x1 x2 x4 σ H locs ls hF hP hl
    rw [P_X8_without_58] at hF
    refine ph_iload (n := 3) X hl dX8_without_58 rfl ?_
    refine ph_aload_n (n := 0) X hl dX8_without_60 rfl rfl ?_
    refine tw_geti 45 X hP q1815 dX8_without_61 ?_
    refine lv_icmp_ge (tgt := 89) X.1 X.2.1 dX8_without_64 (by decide) (fun c12 => ?_) (fun c12 => ?_)
    · have hF := hF.1 c12
      refine ph_aload_n (n := 0) X hl dX8_without_89 rfl rfl ?_
      refine tw_geti 46 X hP q1816 dX8_without_90 ?_
      refine ph_iload_n (n := 1) X hl dX8_without_93 rfl rfl ?_
      refine lv_icmp_ne (tgt := 102) X.1 X.2.1 dX8_without_94 (by decide) (fun c8 => ?_) (fun c8 => ?_)
      · have hF := hF.1 c8
        exact w_X8_without_102 X _ _ _ _ _ hF hP (lh_sub hl [0, 2] rfl)
      · have hF := hF.2 c8
        refine ph_aload_n (n := 0) X hl dX8_without_97 rfl rfl ?_
        refine lv_iconst (v := (-1)) X.1 X.2.1 dX8_without_98 (by decide) ?_
        refine tw_puti 46 X hP q1816 dX8_without_99 hF (fun H locs σ7 hP hF => ?_)
        exact w_X8_without_102 X _ _ _ _ _ hF hP (lh_sub hl [0, 2] rfl)
    · have hF := hF.2 c12
      refine ph_aload_n (n := 0) X hl dX8_without_67 rfl rfl ?_
      refine tw_getr 34 218 X hP q1804 dX8_without_68 ?_
      refine ph_iload (n := 3) X hl dX8_without_71 rfl ?_
      refine ph_aload_n (n := 0) X hl dX8_without_73 rfl rfl ?_
      refine tw_getr 34 218 X hP q1804 dX8_without_74 ?_
      refine ph_iload (n := 3) X hl dX8_without_77 rfl ?_
      refine lv_iconst (v := 1) X.1 X.2.1 dX8_without_79 (by decide) ?_
      refine lv_iadd X.1 X.2.1 dX8_without_80 ?_
      obtain ⟨hr9, hF⟩ := hF
      refine tw_ald 18 (n := 7) X hP hr9 (k := (x4 + 1).toNatClampNeg) rfl dX8_without_81 ?_
      obtain ⟨hr11, hF⟩ := hF
      refine tw_ast 18 (n := 7) X hP hr11 (k := x4.toNatClampNeg) rfl dX8_without_82 hF (fun H locs σ10 hP hF => ?_)
      refine ph_iinc (v := x4 + 1) (k := 3) X hl dX8_without_83 rfl rfl (by decide) rfl (fun ls hl => ?_)
      refine lv_goto (tgt := 58) X.1 X.2.1 dX8_without_86 (by decide) ?_
      exact ih _ _ _ _ _ _ _ hF hP (lh_sub hl [1, 2, 3, 0] rfl)
set_option maxHeartbeats 2000000 in
theorem met_X8_without (l : Launch) (D : va_G) (dA : Nat → ClassId) (ad : Nat → Nat) (σ : S) (sz : Nat) {a1 : Int32} {Q : Int32 → S → Prop} (hF : P_X8_without a1 σ Q) : CTi l yX8_without cX8_without 5 .int ({ frames := 7, cells := 0, slots := 0, locals := 161 } : Room) D dA ad σ sz [pX 200, iX a1] Q := by
  unfold P_X8_without at hF
  refine ph_enter [pX 200, iX a1] (Qc := fun A => va_Qi (TQi Q) (CB D dA ad A) A) (by decide +kernel) (Nat.le_of_ble_eq_true rfl) ?_
  intro p e s m args below meth c A ls X hP hl hnm
  have hl : LH ad ls 5 [(0, pX 200), (1, iX a1)] := hl
  refine ph_aload_n (n := 0) X hl dX8_without_0 rfl rfl ?_
  refine lv_iconst (v := 0) X.1 X.2.1 dX8_without_1 (by decide) ?_
  refine tw_puti 2 X hP q1772 dX8_without_2 hF (fun H locs σ13 hP hF => ?_)
  refine ph_aload_n (n := 0) X hl dX8_without_5 rfl rfl ?_
  refine ph_iload_n (n := 1) X hl dX8_without_6 rfl rfl ?_
  refine tw_callVi [iX a1] X hP (met_X8_isSleeper l D dA ad _ _ hF) (cwV 1 X.2.2.2.2.1 (lw_V q2140 q2142 qs69 q126 q2143) rfl rfl rfl (by decide +kernel) ⟨Nat.le_of_ble_eq_true rfl, Nat.le_of_ble_eq_true rfl⟩) rfl hl (k8 := 0) (cs0 (k := 0)) (by decide) ⟨Nat.le_refl _, Nat.le_refl _⟩ dX8_without_7 rfl (fun r15 σ14 H locs hF hP => ?_)
  refine lv_if_ne (tgt := 19) X.1 X.2.1 dX8_without_10 (by decide) (fun c28 => ?_) (fun c28 => ?_)
  · have hF := hF.1 c28
    refine ph_aload_n (n := 0) X hl dX8_without_19 rfl rfl ?_
    refine tw_callVv [] X hP (met_X8_nightNow l D dA ad _ _ hF) (cwV 0 X.2.2.2.2.1 (lw_V q2199 q2201 qs75 q126 q2202) rfl rfl rfl (by decide +kernel) ⟨Nat.le_of_ble_eq_true rfl, Nat.le_of_ble_eq_true rfl⟩) rfl hl (k8 := 0) (cs0 (k := 0)) (by decide) ⟨Nat.le_refl _, Nat.le_refl _⟩ dX8_without_20 rfl (fun σ16 H locs hF hP => ?_)
    refine ph_aload_n (n := 0) X hl dX8_without_23 rfl rfl ?_
    refine tw_callVi [] X hP (met_X8_allWoken l D dA ad _ _ hF) (cwV 0 X.2.2.2.2.1 (lw_V q2256 q2258 qs88 q126 q2259) rfl rfl rfl (by decide +kernel) ⟨Nat.le_of_ble_eq_true rfl, Nat.le_of_ble_eq_true rfl⟩) rfl hl (k8 := 0) (cs0 (k := 0)) (by decide) ⟨Nat.le_refl _, Nat.le_refl _⟩ dX8_without_24 rfl (fun r19 σ18 H locs hF hP => ?_)
    refine ph_aload_n (n := 0) X hl dX8_without_27 rfl rfl ?_
    refine tw_getr 39 223 X hP q1809 dX8_without_28 ?_
    refine ph_iload_n (n := 1) X hl dX8_without_31 rfl rfl ?_
    obtain ⟨hr20, hF⟩ := hF
    refine tw_ald 23 (n := 7) X hP hr20 (k := a1.toNatClampNeg) rfl dX8_without_32 ?_
    refine lv_isub X.1 X.2.1 dX8_without_33 ?_
    refine ph_istore_n X hl dX8_without_34 rfl (by decide) rfl (fun ls hl => ?_)
    refine ph_aload_n (n := 1) X hl dX8_without_35 rfl rfl ?_
    refine tw_callVv [] X hP (met_X8_set l D dA ad _ _ hF) (cwV 0 X.2.2.2.2.1 (lw_V q2128 q2130 qs67 q126 q2131) rfl rfl rfl (by decide +kernel) ⟨Nat.le_of_ble_eq_true rfl, Nat.le_of_ble_eq_true rfl⟩) rfl hl (k8 := 0) (cs0 (k := 0)) (by decide) ⟨Nat.le_refl _, Nat.le_refl _⟩ dX8_without_36 rfl (fun σ21 H locs hF hP => ?_)
    refine ph_aload_n (n := 1) X hl dX8_without_39 rfl rfl ?_
    refine ph_iload_n (n := 2) X hl dX8_without_40 rfl rfl ?_
    refine tw_callVi [iX a1] X hP (met_X8_placeOf l D dA ad _ _ hF) (cwV 1 X.2.2.2.2.1 (lw_V q2147 q2149 qs70 q126 q2150) rfl rfl rfl (by decide +kernel) ⟨Nat.le_of_ble_eq_true rfl, Nat.le_of_ble_eq_true rfl⟩) rfl hl (k8 := 0) (cs0 (k := 0)) (by decide) ⟨Nat.le_refl _, Nat.le_refl _⟩ dX8_without_41 rfl (fun r24 σ23 H locs hF hP => ?_)
    refine ph_istore_n X hl dX8_without_44 rfl (by decide) rfl (fun ls hl => ?_)
    refine ph_aload_n (n := 2) X hl dX8_without_45 rfl rfl ?_
    refine ph_dup_r X dX8_without_46 ?_
    refine tw_geti 45 X hP q1815 dX8_without_47 ?_
    refine lv_iconst (v := 1) X.1 X.2.1 dX8_without_50 (by decide) ?_
    refine lv_isub X.1 X.2.1 dX8_without_51 ?_
    refine tw_puti 45 X hP q1815 dX8_without_52 hF (fun H locs σ25 hP hF => ?_)
    refine ph_iload_n (n := 0) X hl dX8_without_55 rfl rfl ?_
    refine ph_istore X hl dX8_without_56 (by decide) rfl (fun ls hl => ?_)
    obtain ⟨n9, hF⟩ := hF
    exact w_X8_without_58 X n9 _ _ _ _ _ _ _ hF hP (lh_sub hl [3, 4, 2, 0] rfl)
  · have hF := hF.2 c28
    refine ph_aload_n (n := 0) X hl dX8_without_13 rfl rfl ?_
    refine lv_iconst (v := 1) X.1 X.2.1 dX8_without_14 (by decide) ?_
    refine tw_callVi [iX 1] X hP (met_X8_fail l D dA ad _ _ hF) (cwV 1 X.2.2.2.2.1 (lw_V q2002 q2004 qs44 q126 q2005) rfl rfl rfl (by decide +kernel) ⟨Nat.le_of_ble_eq_true rfl, Nat.le_of_ble_eq_true rfl⟩) rfl hl (k8 := 0) (cs0 (k := 0)) (by decide) ⟨Nat.le_refl _, Nat.le_refl _⟩ dX8_without_15 rfl (fun r27 σ26 H locs hF hP => ?_)
    exact tw_iret X hP hF dX8_without_18
def P_X8_drawOf (a1 : Int32) (σ : S) (Q : Int32 → S → Prop) : Prop := (∀ σ1, σ1 = up2 σ 0 63 (((σ 0 63) * 1103515245) + 12345) → (¬ a1 = 0 ∧ (Q ((((σ1 0 63) >>> ((16 : Int32) &&& 31)) &&& 32767) - (((σ1 0 63) >>> ((16 : Int32) &&& 31)) &&& 32767) / a1 * a1) σ1)))
set_option maxHeartbeats 2000000 in
theorem met_X8_drawOf (l : Launch) (D : va_G) (dA : Nat → ClassId) (ad : Nat → Nat) (σ : S) (sz : Nat) {a1 : Int32} {Q : Int32 → S → Prop} (hF : P_X8_drawOf a1 σ Q) : CTi l yX8_drawOf cX8_drawOf 2 .int ({ frames := 0, cells := 0, slots := 0, locals := 0 } : Room) D dA ad σ sz [pX 200, iX a1] Q := by
  unfold P_X8_drawOf at hF
  refine ph_enter [pX 200, iX a1] (Qc := fun A => va_Qi (TQi Q) (CB D dA ad A) A) (by decide +kernel) (Nat.le_of_ble_eq_true rfl) ?_
  intro p e s m args below meth c A ls X hP hl hnm
  have hl : LH ad ls 2 [(0, pX 200), (1, iX a1)] := hl
  refine ph_aload_n (n := 0) X hl dX8_drawOf_0 rfl rfl ?_
  refine ph_aload_n (n := 0) X hl dX8_drawOf_1 rfl rfl ?_
  refine tw_geti 63 X hP q1833 dX8_drawOf_2 ?_
  refine lv_ldcw (v := 1103515245) X.1 X.2.1 X.2.2.2.1 (X.2.2.2.2.1 _ q2370) dX8_drawOf_5 ?_
  refine lv_imul X.1 X.2.1 dX8_drawOf_8 ?_
  refine lv_sipush (v := 12345) X.1 X.2.1 dX8_drawOf_9 (by decide) ?_
  refine lv_iadd X.1 X.2.1 dX8_drawOf_12 ?_
  refine tw_puti 63 X hP q1833 dX8_drawOf_13 hF (fun H locs σ1 hP hF => ?_)
  refine ph_aload_n (n := 0) X hl dX8_drawOf_16 rfl rfl ?_
  refine tw_geti 63 X hP q1833 dX8_drawOf_17 ?_
  refine lv_bipush (v := 16) X.1 X.2.1 dX8_drawOf_20 (by decide) ?_
  refine lv_ishr X.1 X.2.1 dX8_drawOf_22 ?_
  refine lv_sipush (v := 32767) X.1 X.2.1 dX8_drawOf_23 (by decide) ?_
  refine lv_iand X.1 X.2.1 dX8_drawOf_26 ?_
  refine ph_iload_n (n := 1) X hl dX8_drawOf_27 rfl rfl ?_
  obtain ⟨hz2, hF⟩ := hF
  refine lv_irem X.1 X.2.1 dX8_drawOf_28 hz2 ?_
  exact tw_iret X hP hF dX8_drawOf_29
def P_X8_year_113 (Q : Int32 → S → Prop) (k62 : Int32 → Int32 → Int32 → Int32 → Int32 → Int32 → S → Prop) (k71 : Int32 → Int32 → Int32 → Int32 → Int32 → Int32 → Int32 → S → Prop) (y1 : Int32) (x2 : Int32) (x3 : Int32) (x4 : Int32) (x5 : Int32) (x6 : Int32) (x7 : Int32) (x8 : Int32) (σ : S) : Prop := (vp_in y1 7 ∧ (∀ σ1, σ1 = up2 σ 19 y1.toNatClampNeg 0 → (k71 x2 x3 x4 x5 x6 x7 (x8 + 1) σ1)))
def P_X8_year_71 (Q : Int32 → S → Prop) (k62 : Int32 → Int32 → Int32 → Int32 → Int32 → Int32 → S → Prop) : Nat → Int32 → Int32 → Int32 → Int32 → Int32 → Int32 → Int32 → S → Prop
  | 0, _, _, _, _, _, _, _, _ => False
  | n + 1, x2, x3, x4, x5, x6, x7, x8, σ => (((σ 0 45) ≤ x8 → (P_X8_go (σ 0 26) (σ 3 3) σ (fun σ3 => (P_X8_allWoken σ3 (fun r6 σ5 => ((¬ r6 = 0 → (k62 x2 x3 (x4 + r6) (if x5 < r6 then r6 else x5) (x6 + 0) (x7 + 1) σ5)) ∧ (r6 = 0 → (k62 x2 x3 (x4 + r6) (if x5 < r6 then r6 else x5) (x6 + 1) (x7 + 1) σ5)))))))) ∧ (¬ (σ 0 45) ≤ x8 → (vp_in x8 14 ∧ (((σ 4 x8.toNatClampNeg) = 3 → (P_X8_year_113 Q k62 (fun z0 z1 z2 z3 z4 z5 z6 z7 => P_X8_year_71 Q k62  n z0 z1 z2 z3 z4 z5 z6 z7) x8 x2 x3 x4 x5 x6 x7 x8 σ)) ∧ (¬ (σ 4 x8.toNatClampNeg) = 3 → (P_X8_drawOf 10 σ (fun r10 σ9 => (vp_in x8 14 ∧ ((r10 < (σ9 9 x8.toNatClampNeg) → (P_X8_drawOf (σ9 3 3) σ9 (fun r13 σ12 => (vp_in x8 7 ∧ (∀ σ14, σ14 = up2 σ12 19 x8.toNatClampNeg (1 + r13) → (P_X8_year_71 Q k62  n x2 x3 x4 x5 x6 x7 (x8 + 1) σ14)))))) ∧ (¬ r10 < (σ9 9 x8.toNatClampNeg) → (P_X8_year_113 Q k62 (fun z0 z1 z2 z3 z4 z5 z6 z7 => P_X8_year_71 Q k62  n z0 z1 z2 z3 z4 z5 z6 z7) x8 x2 x3 x4 x5 x6 x7 x8 σ9)))))))))))
def P_X8_year_62 (Q : Int32 → S → Prop) : Nat → Int32 → Int32 → Int32 → Int32 → Int32 → Int32 → S → Prop
  | 0, _, _, _, _, _, _, _ => False
  | n + 1, x2, x3, x4, x5, x6, x7, σ => ((x2 ≤ x7 → ((¬ x3 = 0 → ((¬ x3 = 1 → (Q x6 σ)) ∧ (x3 = 1 → (Q x5 σ)))) ∧ (x3 = 0 → (Q x4 σ)))) ∧ (¬ x2 ≤ x7 → (∃ n9, P_X8_year_71 Q (fun z0 z1 z2 z3 z4 z5 z6 => P_X8_year_62 Q  n z0 z1 z2 z3 z4 z5 z6) n9 x2 x3 x4 x5 x6 x7 0 σ)))
def P_X8_year (a1 : Int32) (a2 : Int32) (a3 : Int32) (σ : S) (Q : Int32 → S → Prop) : Prop := (∀ σ22, σ22 = up2 σ 0 2 0 → (P_X8_isIn a3.toInt64 0 2 σ22 (fun r24 σ23 => ((¬ r24 = 0 → (P_X8_isIn a2.toInt64 0 40 σ23 (fun r26 σ25 => ((¬ r26 = 0 → (P_X8_set σ25 (fun σ27 => (∀ σ29, σ29 = up2 σ27 0 63 a1 → (∃ n9, P_X8_year_62 Q n9 a2 a3 0 0 0 0 σ29))))) ∧ (r26 = 0 → (P_X8_fail 2 σ25 (fun r31 σ30 => (Q r31 σ30)))))))) ∧ (r24 = 0 → (P_X8_fail 1 σ23 (fun r34 σ33 => (Q r34 σ33))))))))
set_option maxHeartbeats 2000000 in
theorem w_X8_year_113 (X : CX p s m args c meth cX8_year 9 (some .int) RX8 D dA ad A) {Q : Int32 → S → Prop} {k62 : Int32 → Int32 → Int32 → Int32 → Int32 → Int32 → S → Prop} {k71 : Int32 → Int32 → Int32 → Int32 → Int32 → Int32 → Int32 → S → Prop} (hk62 : ∀ (x2 : Int32) (x3 : Int32) (x4 : Int32) (x5 : Int32) (x6 : Int32) (x7 : Int32) (σ : S) (H : Heap) (locs : List Loc) (ls : Array Slot), k62 x2 x3 x4 x5 x6 x7 σ → PW D dA A s.heap ad (TH σ) H locs → LH ad ls 9 [(0, pX 200), (2, iX x2), (3, iX x3), (4, iX x4), (5, iX x5), (6, iX x6), (7, iX x7)] → WTi p l e ({ frames := 6, cells := 0, slots := 0, locals := 141 } : Room) s m args below meth c D dA ad A Q H locs (F0 m 62 ls [])) (hk71 : ∀ (x2 : Int32) (x3 : Int32) (x4 : Int32) (x5 : Int32) (x6 : Int32) (x7 : Int32) (x8 : Int32) (σ : S) (H : Heap) (locs : List Loc) (ls : Array Slot), k71 x2 x3 x4 x5 x6 x7 x8 σ → PW D dA A s.heap ad (TH σ) H locs → LH ad ls 9 [(0, pX 200), (2, iX x2), (3, iX x3), (4, iX x4), (5, iX x5), (6, iX x6), (7, iX x7), (8, iX x8)] → WTi p l e ({ frames := 6, cells := 0, slots := 0, locals := 141 } : Room) s m args below meth c D dA ad A Q H locs (F0 m 71 ls [])) : ∀ (y1 : Int32) (x2 : Int32) (x3 : Int32) (x4 : Int32) (x5 : Int32) (x6 : Int32) (x7 : Int32) (x8 : Int32) (σ : S) (H : Heap) (locs : List Loc) (ls : Array Slot), P_X8_year_113 Q k62 k71 y1 x2 x3 x4 x5 x6 x7 x8 σ → PW D dA A s.heap ad (TH σ) H locs → LH ad ls 9 [(0, pX 200), (2, iX x2), (3, iX x3), (4, iX x4), (5, iX x5), (6, iX x6), (7, iX x7), (8, iX x8)] → WTi p l e ({ frames := 6, cells := 0, slots := 0, locals := 141 } : Room) s m args below meth c D dA ad A Q H locs (F0 m 113 ls [.int y1, rv ad 219]) := by
  intro y1 x2 x3 x4 x5 x6 x7 x8 σ H locs ls hF hP hl
  unfold P_X8_year_113 at hF
  refine lv_iconst (v := 0) X.1 X.2.1 dX8_year_113 (by decide) ?_
  refine lv_goto (tgt := 129) X.1 X.2.1 dX8_year_114 (by decide) ?_
  obtain ⟨hr2, hF⟩ := hF
  refine tw_ast 19 (n := 7) X hP hr2 (k := y1.toNatClampNeg) rfl dX8_year_129 hF (fun H locs σ1 hP hF => ?_)
  refine ph_iinc (v := x8 + 1) (k := 7) X hl dX8_year_130 rfl rfl (by decide) rfl (fun ls hl => ?_)
  refine lv_goto (tgt := 71) X.1 X.2.1 dX8_year_133 (by decide) ?_
  exact hk71 _ _ _ _ _ _ _ _ _ _ _ hF hP (lh_sub hl [1, 2, 3, 4, 5, 6, 7, 0] rfl)
set_option maxHeartbeats 2000000 in
theorem w_X8_year_71 (X : CX p s m args c meth cX8_year 9 (some .int) RX8 D dA ad A) {Q : Int32 → S → Prop} {k62 : Int32 → Int32 → Int32 → Int32 → Int32 → Int32 → S → Prop} (hk62 : ∀ (x2 : Int32) (x3 : Int32) (x4 : Int32) (x5 : Int32) (x6 : Int32) (x7 : Int32) (σ : S) (H : Heap) (locs : List Loc) (ls : Array Slot), k62 x2 x3 x4 x5 x6 x7 σ → PW D dA A s.heap ad (TH σ) H locs → LH ad ls 9 [(0, pX 200), (2, iX x2), (3, iX x3), (4, iX x4), (5, iX x5), (6, iX x6), (7, iX x7)] → WTi p l e ({ frames := 6, cells := 0, slots := 0, locals := 141 } : Room) s m args below meth c D dA ad A Q H locs (F0 m 62 ls [])) : ∀ (n : Nat) (x2 : Int32) (x3 : Int32) (x4 : Int32) (x5 : Int32) (x6 : Int32) (x7 : Int32) (x8 : Int32) (σ : S) (H : Heap) (locs : List Loc) (ls : Array Slot), P_X8_year_71 Q k62 n x2 x3 x4 x5 x6 x7 x8 σ → PW D dA A s.heap ad (TH σ) H locs → LH ad ls 9 [(0, pX 200), (2, iX x2), (3, iX x3), (4, iX x4), (5, iX x5), (6, iX x6), (7, iX x7), (8, iX x8)] → WTi p l e ({ frames := 6, cells := 0, slots := 0, locals := 141 } : Room) s m args below meth c D dA ad A Q H locs (F0 m 71 ls []) := by
  intro n
  induction n with
  | zero =>
    intro x2 x3 x4 x5 x6 x7 x8 σ H locs ls hF
    exact hF.elim
  | succ n ih =>
    intro x2 x3 x4 x5 x6 x7 x8 σ H locs ls hF hP hl
    rw [P_X8_year_71] at hF
    refine ph_iload (n := 7) X hl dX8_year_71 rfl ?_
    refine ph_aload_n (n := 0) X hl dX8_year_73 rfl rfl ?_
    refine tw_geti 45 X hP q1815 dX8_year_74 ?_
    refine lv_icmp_ge (tgt := 136) X.1 X.2.1 dX8_year_77 (by decide) (fun c18 => ?_) (fun c18 => ?_)
    · have hF := hF.1 c18
      refine ph_aload_n (n := 0) X hl dX8_year_136 rfl rfl ?_
      refine ph_aload_n (n := 0) X hl dX8_year_137 rfl rfl ?_
      refine tw_geti 26 X hP q1796 dX8_year_138 ?_
      refine ph_aload_n (n := 0) X hl dX8_year_141 rfl rfl ?_
      refine tw_getr 3 203 X hP q1773 dX8_year_142 ?_
      refine lv_iconst (v := 3) X.1 X.2.1 dX8_year_145 (by decide) ?_
      refine tw_ald 3 (n := 16) X hP (vin (by decide)) (k := 3) (by decide) dX8_year_146 ?_
      refine tw_callVv [iX (σ 0 26), iX (σ 3 3)] X hP (met_X8_go l D dA ad _ _ hF) (cwV 2 X.2.2.2.2.1 (lw_V q2203 q2205 qs76 q126 q2206) rfl rfl rfl (by decide +kernel) ⟨Nat.le_of_ble_eq_true rfl, Nat.le_of_ble_eq_true rfl⟩) rfl hl (k8 := 0) (cs0 (k := 0)) (by decide) ⟨Nat.le_refl _, Nat.le_refl _⟩ dX8_year_147 rfl (fun σ3 H locs hF hP => ?_)
      refine ph_aload_n (n := 0) X hl dX8_year_150 rfl rfl ?_
      refine tw_callVi [] X hP (met_X8_allWoken l D dA ad _ _ hF) (cwV 0 X.2.2.2.2.1 (lw_V q2256 q2258 qs88 q126 q2259) rfl rfl rfl (by decide +kernel) ⟨Nat.le_of_ble_eq_true rfl, Nat.le_of_ble_eq_true rfl⟩) rfl hl (k8 := 0) (cs0 (k := 0)) (by decide) ⟨Nat.le_refl _, Nat.le_refl _⟩ dX8_year_151 rfl (fun r6 σ5 H locs hF hP => ?_)
      refine ph_istore X hl dX8_year_154 (by decide) rfl (fun ls hl => ?_)
      refine ph_iload (n := 4) X hl dX8_year_156 rfl ?_
      refine ph_iload (n := 0) X hl dX8_year_158 rfl ?_
      refine lv_iadd X.1 X.2.1 dX8_year_160 ?_
      refine ph_istore X hl dX8_year_161 (by decide) rfl (fun ls hl => ?_)
      refine ph_iload (n := 5) X hl dX8_year_163 rfl ?_
      refine ph_iload (n := 1) X hl dX8_year_165 rfl ?_
      refine va_mmax X.1 X.2.1 (X.2.2.1.trans hl.1.symm) X.2.2.2.1 (X.2.2.2.2.1 _ q2247) (X.2.2.2.2.1 _ q267) (X.2.2.2.2.1 _ q112) (X.2.2.2.2.1 _ q268) (Nat.le_of_ble_eq_true rfl) (Nat.le_trans (Nat.add_le_add_right (cs0 (k := 0)) 13) (Nat.le_of_ble_eq_true rfl)) (Nat.le_refl _) (Nat.le_refl _) dX8_year_167 ?_
      refine ph_istore X hl dX8_year_170 (by decide) rfl (fun ls hl => ?_)
      refine ph_iload (n := 6) X hl dX8_year_172 rfl ?_
      refine ph_iload (n := 2) X hl dX8_year_174 rfl ?_
      refine lv_if_ne (tgt := 183) X.1 X.2.1 dX8_year_176 (by decide) (fun c7 => ?_) (fun c7 => ?_)
      · have hF := hF.1 c7
        refine lv_iconst (v := 0) X.1 X.2.1 dX8_year_183 (by decide) ?_
        refine lv_iadd X.1 X.2.1 dX8_year_184 ?_
        refine ph_istore X hl dX8_year_185 (by decide) rfl (fun ls hl => ?_)
        refine ph_iinc (v := x7 + 1) (k := 7) X hl dX8_year_187 rfl rfl (by decide) rfl (fun ls hl => ?_)
        refine lv_goto (tgt := 62) X.1 X.2.1 dX8_year_190 (by decide) ?_
        exact hk62 _ _ _ _ _ _ _ _ _ _ hF hP (lh_sub hl [5, 6, 7, 3, 2, 1, 0] rfl)
      · have hF := hF.2 c7
        refine lv_iconst (v := 1) X.1 X.2.1 dX8_year_179 (by decide) ?_
        refine lv_goto (tgt := 184) X.1 X.2.1 dX8_year_180 (by decide) ?_
        refine lv_iadd X.1 X.2.1 dX8_year_184 ?_
        refine ph_istore X hl dX8_year_185 (by decide) rfl (fun ls hl => ?_)
        refine ph_iinc (v := x7 + 1) (k := 7) X hl dX8_year_187 rfl rfl (by decide) rfl (fun ls hl => ?_)
        refine lv_goto (tgt := 62) X.1 X.2.1 dX8_year_190 (by decide) ?_
        exact hk62 _ _ _ _ _ _ _ _ _ _ hF hP (lh_sub hl [5, 6, 7, 3, 2, 1, 0] rfl)
    · have hF := hF.2 c18
      refine ph_aload_n (n := 0) X hl dX8_year_80 rfl rfl ?_
      refine tw_getr 35 219 X hP q1805 dX8_year_81 ?_
      refine ph_iload (n := 7) X hl dX8_year_84 rfl ?_
      refine ph_aload_n (n := 0) X hl dX8_year_86 rfl rfl ?_
      refine tw_getr 4 204 X hP q1774 dX8_year_87 ?_
      refine ph_iload (n := 7) X hl dX8_year_90 rfl ?_
      obtain ⟨hr8, hF⟩ := hF
      refine tw_ald 4 (n := 14) X hP hr8 (k := x8.toNatClampNeg) rfl dX8_year_92 ?_
      refine lv_iconst (v := 3) X.1 X.2.1 dX8_year_93 (by decide) ?_
      refine lv_icmp_eq (tgt := 113) X.1 X.2.1 dX8_year_94 (by decide) (fun c17 => ?_) (fun c17 => ?_)
      · have hF := hF.1 c17
        exact w_X8_year_113 X hk62 ih _ _ _ _ _ _ _ _ _ _ _ _ hF hP hl
      · have hF := hF.2 c17
        refine ph_aload_n (n := 0) X hl dX8_year_97 rfl rfl ?_
        refine lv_bipush (v := 10) X.1 X.2.1 dX8_year_98 (by decide) ?_
        refine tw_callVi [iX 10] X hP (met_X8_drawOf l D dA ad _ _ hF) (cwV 1 X.2.2.2.2.1 (lw_V q2366 q2368 qs96 q126 q2369) rfl rfl rfl (by decide +kernel) ⟨Nat.le_of_ble_eq_true rfl, Nat.le_of_ble_eq_true rfl⟩) rfl hl (k8 := 2) (csi (csr (cs0 (k := 0)))) (by decide) ⟨Nat.le_refl _, Nat.le_refl _⟩ dX8_year_100 rfl (fun r10 σ9 H locs hF hP => ?_)
        refine ph_aload_n (n := 0) X hl dX8_year_103 rfl rfl ?_
        refine tw_getr 9 209 X hP q1779 dX8_year_104 ?_
        refine ph_iload (n := 7) X hl dX8_year_107 rfl ?_
        obtain ⟨hr11, hF⟩ := hF
        refine tw_ald 9 (n := 14) X hP hr11 (k := x8.toNatClampNeg) rfl dX8_year_109 ?_
        refine lv_icmp_lt (tgt := 117) X.1 X.2.1 dX8_year_110 (by decide) (fun c16 => ?_) (fun c16 => ?_)
        · have hF := hF.1 c16
          refine lv_iconst (v := 1) X.1 X.2.1 dX8_year_117 (by decide) ?_
          refine ph_aload_n (n := 0) X hl dX8_year_118 rfl rfl ?_
          refine ph_aload_n (n := 0) X hl dX8_year_119 rfl rfl ?_
          refine tw_getr 3 203 X hP q1773 dX8_year_120 ?_
          refine lv_iconst (v := 3) X.1 X.2.1 dX8_year_123 (by decide) ?_
          refine tw_ald 3 (n := 16) X hP (vin (by decide)) (k := 3) (by decide) dX8_year_124 ?_
          refine tw_callVi [iX (σ9 3 3)] X hP (met_X8_drawOf l D dA ad _ _ hF) (cwV 1 X.2.2.2.2.1 (lw_V q2366 q2368 qs96 q126 q2369) rfl rfl rfl (by decide +kernel) ⟨Nat.le_of_ble_eq_true rfl, Nat.le_of_ble_eq_true rfl⟩) rfl hl (k8 := 3) (csi (csi (csr (cs0 (k := 0))))) (by decide) ⟨Nat.le_refl _, Nat.le_refl _⟩ dX8_year_125 rfl (fun r13 σ12 H locs hF hP => ?_)
          refine lv_iadd X.1 X.2.1 dX8_year_128 ?_
          obtain ⟨hr15, hF⟩ := hF
          refine tw_ast 19 (n := 7) X hP hr15 (k := x8.toNatClampNeg) rfl dX8_year_129 hF (fun H locs σ14 hP hF => ?_)
          refine ph_iinc (v := x8 + 1) (k := 7) X hl dX8_year_130 rfl rfl (by decide) rfl (fun ls hl => ?_)
          refine lv_goto (tgt := 71) X.1 X.2.1 dX8_year_133 (by decide) ?_
          exact ih _ _ _ _ _ _ _ _ _ _ _ hF hP (lh_sub hl [1, 2, 3, 4, 5, 6, 7, 0] rfl)
        · have hF := hF.2 c16
          exact w_X8_year_113 X hk62 ih _ _ _ _ _ _ _ _ _ _ _ _ hF hP hl
set_option maxHeartbeats 2000000 in
theorem w_X8_year_62 (X : CX p s m args c meth cX8_year 9 (some .int) RX8 D dA ad A) {Q : Int32 → S → Prop} : ∀ (n : Nat) (x2 : Int32) (x3 : Int32) (x4 : Int32) (x5 : Int32) (x6 : Int32) (x7 : Int32) (σ : S) (H : Heap) (locs : List Loc) (ls : Array Slot), P_X8_year_62 Q n x2 x3 x4 x5 x6 x7 σ → PW D dA A s.heap ad (TH σ) H locs → LH ad ls 9 [(0, pX 200), (2, iX x2), (3, iX x3), (4, iX x4), (5, iX x5), (6, iX x6), (7, iX x7)] → WTi p l e ({ frames := 6, cells := 0, slots := 0, locals := 141 } : Room) s m args below meth c D dA ad A Q H locs (F0 m 62 ls []) := by
  intro n
  induction n with
  | zero =>
    intro x2 x3 x4 x5 x6 x7 σ H locs ls hF
    exact hF.elim
  | succ n ih =>
    intro x2 x3 x4 x5 x6 x7 σ H locs ls hF hP hl
    rw [P_X8_year_62] at hF
    refine ph_iload (n := 6) X hl dX8_year_62 rfl ?_
    refine ph_iload_n (n := 1) X hl dX8_year_64 rfl rfl ?_
    refine lv_icmp_ge (tgt := 193) X.1 X.2.1 dX8_year_65 (by decide) (fun c21 => ?_) (fun c21 => ?_)
    · have hF := hF.1 c21
      refine ph_iload_n (n := 2) X hl dX8_year_193 rfl rfl ?_
      refine lv_if_ne (tgt := 202) X.1 X.2.1 dX8_year_194 (by decide) (fun c20 => ?_) (fun c20 => ?_)
      · have hF := hF.1 c20
        refine ph_iload_n (n := 2) X hl dX8_year_202 rfl rfl ?_
        refine lv_iconst (v := 1) X.1 X.2.1 dX8_year_203 (by decide) ?_
        refine lv_icmp_ne (tgt := 212) X.1 X.2.1 dX8_year_204 (by decide) (fun c19 => ?_) (fun c19 => ?_)
        · have hF := hF.1 c19
          refine ph_iload (n := 5) X hl dX8_year_212 rfl ?_
          exact tw_iret X hP hF dX8_year_214
        · have hF := hF.2 c19
          refine ph_iload (n := 4) X hl dX8_year_207 rfl ?_
          refine lv_goto (tgt := 214) X.1 X.2.1 dX8_year_209 (by decide) ?_
          exact tw_iret X hP hF dX8_year_214
      · have hF := hF.2 c20
        refine ph_iload (n := 3) X hl dX8_year_197 rfl ?_
        refine lv_goto (tgt := 214) X.1 X.2.1 dX8_year_199 (by decide) ?_
        exact tw_iret X hP hF dX8_year_214
    · have hF := hF.2 c21
      refine lv_iconst (v := 0) X.1 X.2.1 dX8_year_68 (by decide) ?_
      refine ph_istore X hl dX8_year_69 (by decide) rfl (fun ls hl => ?_)
      obtain ⟨n9, hF⟩ := hF
      exact w_X8_year_71 X ih n9 _ _ _ _ _ _ _ _ _ _ _ hF hP (lh_sub hl [1, 2, 3, 4, 5, 6, 7, 0] rfl)
set_option maxHeartbeats 2000000 in
theorem met_X8_year (l : Launch) (D : va_G) (dA : Nat → ClassId) (ad : Nat → Nat) (σ : S) (sz : Nat) {a1 : Int32} {a2 : Int32} {a3 : Int32} {Q : Int32 → S → Prop} (hF : P_X8_year a1 a2 a3 σ Q) : CTi l yX8_year cX8_year 9 .int ({ frames := 6, cells := 0, slots := 0, locals := 141 } : Room) D dA ad σ sz [pX 200, iX a1, iX a2, iX a3] Q := by
  unfold P_X8_year at hF
  refine ph_enter [pX 200, iX a1, iX a2, iX a3] (Qc := fun A => va_Qi (TQi Q) (CB D dA ad A) A) (by decide +kernel) (Nat.le_of_ble_eq_true rfl) ?_
  intro p e s m args below meth c A ls X hP hl hnm
  have hl : LH ad ls 9 [(0, pX 200), (1, iX a1), (2, iX a2), (3, iX a3)] := hl
  refine ph_aload_n (n := 0) X hl dX8_year_0 rfl rfl ?_
  refine lv_iconst (v := 0) X.1 X.2.1 dX8_year_1 (by decide) ?_
  refine tw_puti 2 X hP q1772 dX8_year_2 hF (fun H locs σ22 hP hF => ?_)
  refine ph_iload_n (n := 3) X hl dX8_year_5 rfl rfl ?_
  refine lv_i2l X.1 X.2.1 dX8_year_6 rfl ?_
  refine lv_lconst (v := 0) X.1 X.2.1 dX8_year_7 (by decide) ?_
  refine lv_ldc2 (v := 2) X.1 X.2.1 X.2.2.2.1 (X.2.2.2.2.1 _ q2364) dX8_year_8 ?_
  refine tw_callSi [lX a3.toInt64, lX 0, lX 2] X hP (met_X8_isIn l D dA ad _ _ hF) (va_cwS 3 X.2.2.2.2.1 (lw_S q2144 q2145 q126 q2146) rfl rfl rfl (by decide +kernel) ⟨Nat.le_of_ble_eq_true rfl, Nat.le_of_ble_eq_true rfl⟩) rfl hl (k8 := 0) (cs0 (k := 0)) (by decide) ⟨Nat.le_refl _, Nat.le_refl _⟩ dX8_year_11 rfl (fun r24 σ23 H locs hF hP => ?_)
  refine lv_if_ne (tgt := 23) X.1 X.2.1 dX8_year_14 (by decide) (fun c35 => ?_) (fun c35 => ?_)
  · have hF := hF.1 c35
    refine ph_iload_n (n := 2) X hl dX8_year_23 rfl rfl ?_
    refine lv_i2l X.1 X.2.1 dX8_year_24 rfl ?_
    refine lv_lconst (v := 0) X.1 X.2.1 dX8_year_25 (by decide) ?_
    refine lv_ldc2 (v := 40) X.1 X.2.1 X.2.2.2.1 (X.2.2.2.2.1 _ q2365) dX8_year_26 ?_
    refine tw_callSi [lX a2.toInt64, lX 0, lX 40] X hP (met_X8_isIn l D dA ad _ _ hF) (va_cwS 3 X.2.2.2.2.1 (lw_S q2144 q2145 q126 q2146) rfl rfl rfl (by decide +kernel) ⟨Nat.le_of_ble_eq_true rfl, Nat.le_of_ble_eq_true rfl⟩) rfl hl (k8 := 0) (cs0 (k := 0)) (by decide) ⟨Nat.le_refl _, Nat.le_refl _⟩ dX8_year_29 rfl (fun r26 σ25 H locs hF hP => ?_)
    refine lv_if_ne (tgt := 41) X.1 X.2.1 dX8_year_32 (by decide) (fun c32 => ?_) (fun c32 => ?_)
    · have hF := hF.1 c32
      refine ph_aload_n (n := 0) X hl dX8_year_41 rfl rfl ?_
      refine tw_callVv [] X hP (met_X8_set l D dA ad _ _ hF) (cwV 0 X.2.2.2.2.1 (lw_V q2128 q2130 qs67 q126 q2131) rfl rfl rfl (by decide +kernel) ⟨Nat.le_of_ble_eq_true rfl, Nat.le_of_ble_eq_true rfl⟩) rfl hl (k8 := 0) (cs0 (k := 0)) (by decide) ⟨Nat.le_refl _, Nat.le_refl _⟩ dX8_year_42 rfl (fun σ27 H locs hF hP => ?_)
      refine ph_aload_n (n := 0) X hl dX8_year_45 rfl rfl ?_
      refine ph_iload_n (n := 1) X hl dX8_year_46 rfl rfl ?_
      refine tw_puti 63 X hP q1833 dX8_year_47 hF (fun H locs σ29 hP hF => ?_)
      refine lv_iconst (v := 0) X.1 X.2.1 dX8_year_50 (by decide) ?_
      refine ph_istore X hl dX8_year_51 (by decide) rfl (fun ls hl => ?_)
      refine lv_iconst (v := 0) X.1 X.2.1 dX8_year_53 (by decide) ?_
      refine ph_istore X hl dX8_year_54 (by decide) rfl (fun ls hl => ?_)
      refine lv_iconst (v := 0) X.1 X.2.1 dX8_year_56 (by decide) ?_
      refine ph_istore X hl dX8_year_57 (by decide) rfl (fun ls hl => ?_)
      refine lv_iconst (v := 0) X.1 X.2.1 dX8_year_59 (by decide) ?_
      refine ph_istore X hl dX8_year_60 (by decide) rfl (fun ls hl => ?_)
      obtain ⟨n9, hF⟩ := hF
      exact w_X8_year_62 X n9 _ _ _ _ _ _ _ _ _ _ hF hP (lh_sub hl [4, 6, 7, 3, 2, 1, 0] rfl)
    · have hF := hF.2 c32
      refine ph_aload_n (n := 0) X hl dX8_year_35 rfl rfl ?_
      refine lv_iconst (v := 2) X.1 X.2.1 dX8_year_36 (by decide) ?_
      refine tw_callVi [iX 2] X hP (met_X8_fail l D dA ad _ _ hF) (cwV 1 X.2.2.2.2.1 (lw_V q2002 q2004 qs44 q126 q2005) rfl rfl rfl (by decide +kernel) ⟨Nat.le_of_ble_eq_true rfl, Nat.le_of_ble_eq_true rfl⟩) rfl hl (k8 := 0) (cs0 (k := 0)) (by decide) ⟨Nat.le_refl _, Nat.le_refl _⟩ dX8_year_37 rfl (fun r31 σ30 H locs hF hP => ?_)
      exact tw_iret X hP hF dX8_year_40
  · have hF := hF.2 c35
    refine ph_aload_n (n := 0) X hl dX8_year_17 rfl rfl ?_
    refine lv_iconst (v := 1) X.1 X.2.1 dX8_year_18 (by decide) ?_
    refine tw_callVi [iX 1] X hP (met_X8_fail l D dA ad _ _ hF) (cwV 1 X.2.2.2.2.1 (lw_V q2002 q2004 qs44 q126 q2005) rfl rfl rfl (by decide +kernel) ⟨Nat.le_of_ble_eq_true rfl, Nat.le_of_ble_eq_true rfl⟩) rfl hl (k8 := 0) (cs0 (k := 0)) (by decide) ⟨Nat.le_refl _, Nat.le_refl _⟩ dX8_year_19 rfl (fun r34 σ33 H locs hF hP => ?_)
    exact tw_iret X hP hF dX8_year_22
def P_X8_be_2 (Q : S → Prop) : Nat → Nat → Nat → Int32 → S → Prop
  | 0, _, _, _, _ => False
  | n + 1, x0, x1, x2, σ => (tK x0 = 100 ∧ (((nI (tL x0)) ≤ x2 → (Q σ)) ∧ (¬ (nI (tL x0)) ≤ x2 → ((tK x1 = 100 ∧ vp_in x2 (tL x1)) ∧ ((tK x0 = 100 ∧ vp_in x2 (tL x0)) ∧ (∀ σ3, σ3 = up2 σ (x0 - 200) x2.toNatClampNeg (σ (x1 - 200) (x2.toNatClampNeg)) → (P_X8_be_2 Q  n x0 x1 (x2 + 1) σ3)))))))
def P_X8_be (a0 : Nat) (a1 : Nat) (σ : S) (Q : S → Prop) : Prop := (∃ n9, P_X8_be_2 Q n9 a0 a1 0 σ)
set_option maxHeartbeats 2000000 in
theorem w_X8_be_2 (X : CX p s m args c meth cX8_be 3 none RX8 D dA ad A) {Q : S → Prop} : ∀ (n : Nat) (x0 : Nat) (x1 : Nat) (x2 : Int32) (σ : S) (H : Heap) (locs : List Loc) (ls : Array Slot), P_X8_be_2 Q n x0 x1 x2 σ → PW D dA A s.heap ad (TH σ) H locs → LH ad ls 3 [(0, pX x0), (1, pX x1), (2, iX x2)] → WTv p l e ({ frames := 0, cells := 0, slots := 0, locals := 0 } : Room) s m args below meth c D dA ad A Q H locs (F0 m 2 ls []) := by
  intro n
  induction n with
  | zero =>
    intro x0 x1 x2 σ H locs ls hF
    exact hF.elim
  | succ n ih =>
    intro x0 x1 x2 σ H locs ls hF hP hl
    rw [P_X8_be_2] at hF
    refine ph_iload_n (n := 2) X hl dX8_be_2 rfl rfl ?_
    refine ph_aload_n (n := 0) X hl dX8_be_3 rfl rfl ?_
    obtain ⟨hr1, hF⟩ := hF
    refine tw_alen X hP dX8_be_4 hr1 rfl (x := nI (tL x0)) rfl ?_
    refine lv_icmp_ge (tgt := 20) X.1 X.2.1 dX8_be_5 (by decide) (fun c5 => ?_) (fun c5 => ?_)
    · have hF := hF.1 c5
      exact tw_vret X hP hF dX8_be_20
    · have hF := hF.2 c5
      refine ph_aload_n (n := 0) X hl dX8_be_8 rfl rfl ?_
      refine ph_iload_n (n := 2) X hl dX8_be_9 rfl rfl ?_
      refine ph_aload_n (n := 1) X hl dX8_be_10 rfl rfl ?_
      refine ph_iload_n (n := 2) X hl dX8_be_11 rfl rfl ?_
      obtain ⟨hr2, hF⟩ := hF
      refine tw_aldd X hP hr2.1 hr2.2 (k := x2.toNatClampNeg) rfl dX8_be_12 ?_
      obtain ⟨hr4, hF⟩ := hF
      refine tw_astd X hP hr4.1 hr4.2 (k := x2.toNatClampNeg) rfl dX8_be_13 hF (fun H locs σ3 hP hF => ?_)
      refine ph_iinc (v := x2 + 1) (k := 2) X hl dX8_be_14 rfl rfl (by decide) rfl (fun ls hl => ?_)
      refine lv_goto (tgt := 2) X.1 X.2.1 dX8_be_17 (by decide) ?_
      exact ih _ _ _ _ _ _ _ hF hP (lh_sub hl [1, 2, 0] rfl)
set_option maxHeartbeats 2000000 in
theorem met_X8_be (l : Launch) (D : va_G) (dA : Nat → ClassId) (ad : Nat → Nat) (σ : S) (sz : Nat) {a0 : Nat} {a1 : Nat} {Q : S → Prop} (hF : P_X8_be a0 a1 σ Q) : CTv l yX8_be cX8_be 3 ({ frames := 0, cells := 0, slots := 0, locals := 0 } : Room) D dA ad σ sz [pX a0, pX a1] Q := by
  unfold P_X8_be at hF
  refine ph_enter [pX a0, pX a1] (Qc := fun A => va_Qv (TQv Q) (CB D dA ad A) A) (by decide +kernel) (Nat.le_of_ble_eq_true rfl) ?_
  intro p e s m args below meth c A ls X hP hl hnm
  have hl : LH ad ls 3 [(0, pX a0), (1, pX a1)] := hl
  refine lv_iconst (v := 0) X.1 X.2.1 dX8_be_0 (by decide) ?_
  refine ph_istore_n X hl dX8_be_1 rfl (by decide) rfl (fun ls hl => ?_)
  obtain ⟨n9, hF⟩ := hF
  exact w_X8_be_2 X n9 _ _ _ _ _ _ _ hF hP (lh_sub hl [1, 2, 0] rfl)
def P_X8_image  (σ : S) (Q : S → Prop) : Prop := (∀ σ1, σ1 = up2 σ 0 2 0 → (∀ σ2, σ2 = up2 σ1 0 64 1 → (∀ σ3, σ3 = up2 σ2 0 65 (σ2 0 30) → (∀ σ4, σ4 = up2 σ3 0 66 (σ3 0 31) → (P_X8_pack 235 0 σ4 (fun σ5 => (P_X8_be 236 215 σ5 (fun σ7 => (P_X8_be 237 232 σ7 (fun σ9 => (P_X8_be 238 233 σ9 (fun σ11 => (P_X8_be 239 234 σ11 (fun σ13 => (P_X8_be 240 212 σ13 (fun σ15 => (Q σ15)))))))))))))))))
set_option maxHeartbeats 2000000 in
theorem met_X8_image (l : Launch) (D : va_G) (dA : Nat → ClassId) (ad : Nat → Nat) (σ : S) (sz : Nat) {Q : S → Prop} (hF : P_X8_image  σ Q) : CTv l yX8_image cX8_image 1 ({ frames := 1, cells := 0, slots := 0, locals := 23 } : Room) D dA ad σ sz [pX 200] Q := by
  unfold P_X8_image at hF
  refine ph_enter [pX 200] (Qc := fun A => va_Qv (TQv Q) (CB D dA ad A) A) (by decide +kernel) (Nat.le_of_ble_eq_true rfl) ?_
  intro p e s m args below meth c A ls X hP hl hnm
  have hl : LH ad ls 1 [(0, pX 200)] := hl
  refine ph_aload_n (n := 0) X hl dX8_image_0 rfl rfl ?_
  refine lv_iconst (v := 0) X.1 X.2.1 dX8_image_1 (by decide) ?_
  refine tw_puti 2 X hP q1772 dX8_image_2 hF (fun H locs σ1 hP hF => ?_)
  refine ph_aload_n (n := 0) X hl dX8_image_5 rfl rfl ?_
  refine lv_iconst (v := 1) X.1 X.2.1 dX8_image_6 (by decide) ?_
  refine tw_putz 64 X hP q1834 dX8_image_7 isB_1 hF (fun H locs σ2 hP hF => ?_)
  refine ph_aload_n (n := 0) X hl dX8_image_10 rfl rfl ?_
  refine ph_aload_n (n := 0) X hl dX8_image_11 rfl rfl ?_
  refine tw_geti 30 X hP q1800 dX8_image_12 ?_
  refine tw_puti 65 X hP q1835 dX8_image_15 hF (fun H locs σ3 hP hF => ?_)
  refine ph_aload_n (n := 0) X hl dX8_image_18 rfl rfl ?_
  refine ph_aload_n (n := 0) X hl dX8_image_19 rfl rfl ?_
  refine tw_geti 31 X hP q1801 dX8_image_20 ?_
  refine tw_puti 66 X hP q1836 dX8_image_23 hF (fun H locs σ4 hP hF => ?_)
  refine ph_aload_n (n := 0) X hl dX8_image_26 rfl rfl ?_
  refine ph_aload_n (n := 0) X hl dX8_image_27 rfl rfl ?_
  refine tw_getr 67 235 X hP q1837 dX8_image_28 ?_
  refine lv_iconst (v := 0) X.1 X.2.1 dX8_image_31 (by decide) ?_
  refine tw_callVv [pX 235, iX 0] X hP (met_X8_pack l D dA ad _ _ hF) (cwV 2 X.2.2.2.2.1 (lw_V q2159 q2161 qs72 q126 q2162) rfl rfl rfl (by decide +kernel) ⟨Nat.le_of_ble_eq_true rfl, Nat.le_of_ble_eq_true rfl⟩) rfl hl (k8 := 0) (cs0 (k := 0)) (by decide) ⟨Nat.le_refl _, Nat.le_refl _⟩ dX8_image_32 rfl (fun σ5 H locs hF hP => ?_)
  refine ph_aload_n (n := 0) X hl dX8_image_35 rfl rfl ?_
  refine tw_getr 68 236 X hP q1838 dX8_image_36 ?_
  refine ph_aload_n (n := 0) X hl dX8_image_39 rfl rfl ?_
  refine tw_getr 25 215 X hP q1795 dX8_image_40 ?_
  refine tw_callSv [pX 236, pX 215] X hP (met_X8_be l D dA ad _ _ hF) (va_cwS 2 X.2.2.2.2.1 (lw_S q2375 q2376 q126 q2377) rfl rfl rfl (by decide +kernel) ⟨Nat.le_of_ble_eq_true rfl, Nat.le_of_ble_eq_true rfl⟩) rfl hl (k8 := 0) (cs0 (k := 0)) (by decide) ⟨Nat.le_refl _, Nat.le_refl _⟩ dX8_image_43 rfl (fun σ7 H locs hF hP => ?_)
  refine ph_aload_n (n := 0) X hl dX8_image_46 rfl rfl ?_
  refine tw_getr 69 237 X hP q1839 dX8_image_47 ?_
  refine ph_aload_n (n := 0) X hl dX8_image_50 rfl rfl ?_
  refine tw_getr 60 232 X hP q1830 dX8_image_51 ?_
  refine tw_callSv [pX 237, pX 232] X hP (met_X8_be l D dA ad _ _ hF) (va_cwS 2 X.2.2.2.2.1 (lw_S q2375 q2376 q126 q2377) rfl rfl rfl (by decide +kernel) ⟨Nat.le_of_ble_eq_true rfl, Nat.le_of_ble_eq_true rfl⟩) rfl hl (k8 := 0) (cs0 (k := 0)) (by decide) ⟨Nat.le_refl _, Nat.le_refl _⟩ dX8_image_54 rfl (fun σ9 H locs hF hP => ?_)
  refine ph_aload_n (n := 0) X hl dX8_image_57 rfl rfl ?_
  refine tw_getr 70 238 X hP q1840 dX8_image_58 ?_
  refine ph_aload_n (n := 0) X hl dX8_image_61 rfl rfl ?_
  refine tw_getr 61 233 X hP q1831 dX8_image_62 ?_
  refine tw_callSv [pX 238, pX 233] X hP (met_X8_be l D dA ad _ _ hF) (va_cwS 2 X.2.2.2.2.1 (lw_S q2375 q2376 q126 q2377) rfl rfl rfl (by decide +kernel) ⟨Nat.le_of_ble_eq_true rfl, Nat.le_of_ble_eq_true rfl⟩) rfl hl (k8 := 0) (cs0 (k := 0)) (by decide) ⟨Nat.le_refl _, Nat.le_refl _⟩ dX8_image_65 rfl (fun σ11 H locs hF hP => ?_)
  refine ph_aload_n (n := 0) X hl dX8_image_68 rfl rfl ?_
  refine tw_getr 71 239 X hP q1841 dX8_image_69 ?_
  refine ph_aload_n (n := 0) X hl dX8_image_72 rfl rfl ?_
  refine tw_getr 62 234 X hP q1832 dX8_image_73 ?_
  refine tw_callSv [pX 239, pX 234] X hP (met_X8_be l D dA ad _ _ hF) (va_cwS 2 X.2.2.2.2.1 (lw_S q2375 q2376 q126 q2377) rfl rfl rfl (by decide +kernel) ⟨Nat.le_of_ble_eq_true rfl, Nat.le_of_ble_eq_true rfl⟩) rfl hl (k8 := 0) (cs0 (k := 0)) (by decide) ⟨Nat.le_refl _, Nat.le_refl _⟩ dX8_image_76 rfl (fun σ13 H locs hF hP => ?_)
  refine ph_aload_n (n := 0) X hl dX8_image_79 rfl rfl ?_
  refine tw_getr 72 240 X hP q1842 dX8_image_80 ?_
  refine ph_aload_n (n := 0) X hl dX8_image_83 rfl rfl ?_
  refine tw_getr 12 212 X hP q1782 dX8_image_84 ?_
  refine tw_callSv [pX 240, pX 212] X hP (met_X8_be l D dA ad _ _ hF) (va_cwS 2 X.2.2.2.2.1 (lw_S q2375 q2376 q126 q2377) rfl rfl rfl (by decide +kernel) ⟨Nat.le_of_ble_eq_true rfl, Nat.le_of_ble_eq_true rfl⟩) rfl hl (k8 := 0) (cs0 (k := 0)) (by decide) ⟨Nat.le_refl _, Nat.le_refl _⟩ dX8_image_87 rfl (fun σ15 H locs hF hP => ?_)
  exact tw_vret X hP hF dX8_image_90
def P_X8_restore  (σ : S) (Q : Int32 → S → Prop) : Prop := (∀ σ1, σ1 = up2 σ 0 2 0 → ((¬ (σ1 0 64) = 0 → (∀ σ2, σ2 = up2 σ1 0 30 (σ1 0 65) → (∀ σ3, σ3 = up2 σ2 0 31 (σ2 0 66) → (P_X8_unpack 235 0 σ3 (fun σ4 => (P_X8_be 215 236 σ4 (fun σ6 => (P_X8_be 232 237 σ6 (fun σ8 => (P_X8_be 233 238 σ8 (fun σ10 => (P_X8_be 234 239 σ10 (fun σ12 => (P_X8_be 212 240 σ12 (fun σ14 => (Q 1 σ14)))))))))))))))) ∧ ((σ1 0 64) = 0 → (Q 0 σ1))))
set_option maxHeartbeats 2000000 in
theorem met_X8_restore (l : Launch) (D : va_G) (dA : Nat → ClassId) (ad : Nat → Nat) (σ : S) (sz : Nat) {Q : Int32 → S → Prop} (hF : P_X8_restore  σ Q) : CTi l yX8_restore cX8_restore 1 .boolean ({ frames := 1, cells := 0, slots := 0, locals := 23 } : Room) D dA ad σ sz [pX 200] Q := by
  unfold P_X8_restore at hF
  refine ph_enter [pX 200] (Qc := fun A => va_Qi (TQi Q) (CB D dA ad A) A) (by decide +kernel) (Nat.le_of_ble_eq_true rfl) ?_
  intro p e s m args below meth c A ls X hP hl hnm
  have hl : LH ad ls 1 [(0, pX 200)] := hl
  refine ph_aload_n (n := 0) X hl dX8_restore_0 rfl rfl ?_
  refine lv_iconst (v := 0) X.1 X.2.1 dX8_restore_1 (by decide) ?_
  refine tw_puti 2 X hP q1772 dX8_restore_2 hF (fun H locs σ1 hP hF => ?_)
  refine ph_aload_n (n := 0) X hl dX8_restore_5 rfl rfl ?_
  refine tw_geti 64 X hP q1834 dX8_restore_6 ?_
  refine lv_if_ne (tgt := 14) X.1 X.2.1 dX8_restore_9 (by decide) (fun c16 => ?_) (fun c16 => ?_)
  · have hF := hF.1 c16
    refine ph_aload_n (n := 0) X hl dX8_restore_14 rfl rfl ?_
    refine ph_aload_n (n := 0) X hl dX8_restore_15 rfl rfl ?_
    refine tw_geti 65 X hP q1835 dX8_restore_16 ?_
    refine tw_puti 30 X hP q1800 dX8_restore_19 hF (fun H locs σ2 hP hF => ?_)
    refine ph_aload_n (n := 0) X hl dX8_restore_22 rfl rfl ?_
    refine ph_aload_n (n := 0) X hl dX8_restore_23 rfl rfl ?_
    refine tw_geti 66 X hP q1836 dX8_restore_24 ?_
    refine tw_puti 31 X hP q1801 dX8_restore_27 hF (fun H locs σ3 hP hF => ?_)
    refine ph_aload_n (n := 0) X hl dX8_restore_30 rfl rfl ?_
    refine ph_aload_n (n := 0) X hl dX8_restore_31 rfl rfl ?_
    refine tw_getr 67 235 X hP q1837 dX8_restore_32 ?_
    refine lv_iconst (v := 0) X.1 X.2.1 dX8_restore_35 (by decide) ?_
    refine tw_callVv [pX 235, iX 0] X hP (met_X8_unpack l D dA ad _ _ hF) (cwV 2 X.2.2.2.2.1 (lw_V q2190 q2192 qs74 q126 q2193) rfl rfl rfl (by decide +kernel) ⟨Nat.le_of_ble_eq_true rfl, Nat.le_of_ble_eq_true rfl⟩) rfl hl (k8 := 0) (cs0 (k := 0)) (by decide) ⟨Nat.le_refl _, Nat.le_refl _⟩ dX8_restore_36 rfl (fun σ4 H locs hF hP => ?_)
    refine ph_aload_n (n := 0) X hl dX8_restore_39 rfl rfl ?_
    refine tw_getr 25 215 X hP q1795 dX8_restore_40 ?_
    refine ph_aload_n (n := 0) X hl dX8_restore_43 rfl rfl ?_
    refine tw_getr 68 236 X hP q1838 dX8_restore_44 ?_
    refine tw_callSv [pX 215, pX 236] X hP (met_X8_be l D dA ad _ _ hF) (va_cwS 2 X.2.2.2.2.1 (lw_S q2375 q2376 q126 q2377) rfl rfl rfl (by decide +kernel) ⟨Nat.le_of_ble_eq_true rfl, Nat.le_of_ble_eq_true rfl⟩) rfl hl (k8 := 0) (cs0 (k := 0)) (by decide) ⟨Nat.le_refl _, Nat.le_refl _⟩ dX8_restore_47 rfl (fun σ6 H locs hF hP => ?_)
    refine ph_aload_n (n := 0) X hl dX8_restore_50 rfl rfl ?_
    refine tw_getr 60 232 X hP q1830 dX8_restore_51 ?_
    refine ph_aload_n (n := 0) X hl dX8_restore_54 rfl rfl ?_
    refine tw_getr 69 237 X hP q1839 dX8_restore_55 ?_
    refine tw_callSv [pX 232, pX 237] X hP (met_X8_be l D dA ad _ _ hF) (va_cwS 2 X.2.2.2.2.1 (lw_S q2375 q2376 q126 q2377) rfl rfl rfl (by decide +kernel) ⟨Nat.le_of_ble_eq_true rfl, Nat.le_of_ble_eq_true rfl⟩) rfl hl (k8 := 0) (cs0 (k := 0)) (by decide) ⟨Nat.le_refl _, Nat.le_refl _⟩ dX8_restore_58 rfl (fun σ8 H locs hF hP => ?_)
    refine ph_aload_n (n := 0) X hl dX8_restore_61 rfl rfl ?_
    refine tw_getr 61 233 X hP q1831 dX8_restore_62 ?_
    refine ph_aload_n (n := 0) X hl dX8_restore_65 rfl rfl ?_
    refine tw_getr 70 238 X hP q1840 dX8_restore_66 ?_
    refine tw_callSv [pX 233, pX 238] X hP (met_X8_be l D dA ad _ _ hF) (va_cwS 2 X.2.2.2.2.1 (lw_S q2375 q2376 q126 q2377) rfl rfl rfl (by decide +kernel) ⟨Nat.le_of_ble_eq_true rfl, Nat.le_of_ble_eq_true rfl⟩) rfl hl (k8 := 0) (cs0 (k := 0)) (by decide) ⟨Nat.le_refl _, Nat.le_refl _⟩ dX8_restore_69 rfl (fun σ10 H locs hF hP => ?_)
    refine ph_aload_n (n := 0) X hl dX8_restore_72 rfl rfl ?_
    refine tw_getr 62 234 X hP q1832 dX8_restore_73 ?_
    refine ph_aload_n (n := 0) X hl dX8_restore_76 rfl rfl ?_
    refine tw_getr 71 239 X hP q1841 dX8_restore_77 ?_
    refine tw_callSv [pX 234, pX 239] X hP (met_X8_be l D dA ad _ _ hF) (va_cwS 2 X.2.2.2.2.1 (lw_S q2375 q2376 q126 q2377) rfl rfl rfl (by decide +kernel) ⟨Nat.le_of_ble_eq_true rfl, Nat.le_of_ble_eq_true rfl⟩) rfl hl (k8 := 0) (cs0 (k := 0)) (by decide) ⟨Nat.le_refl _, Nat.le_refl _⟩ dX8_restore_80 rfl (fun σ12 H locs hF hP => ?_)
    refine ph_aload_n (n := 0) X hl dX8_restore_83 rfl rfl ?_
    refine tw_getr 12 212 X hP q1782 dX8_restore_84 ?_
    refine ph_aload_n (n := 0) X hl dX8_restore_87 rfl rfl ?_
    refine tw_getr 72 240 X hP q1842 dX8_restore_88 ?_
    refine tw_callSv [pX 212, pX 240] X hP (met_X8_be l D dA ad _ _ hF) (va_cwS 2 X.2.2.2.2.1 (lw_S q2375 q2376 q126 q2377) rfl rfl rfl (by decide +kernel) ⟨Nat.le_of_ble_eq_true rfl, Nat.le_of_ble_eq_true rfl⟩) rfl hl (k8 := 0) (cs0 (k := 0)) (by decide) ⟨Nat.le_refl _, Nat.le_refl _⟩ dX8_restore_91 rfl (fun σ14 H locs hF hP => ?_)
    refine lv_iconst (v := 1) X.1 X.2.1 dX8_restore_94 (by decide) ?_
    exact tw_zret X hP isB_1 hF dX8_restore_95
  · have hF := hF.2 c16
    refine lv_iconst (v := 0) X.1 X.2.1 dX8_restore_12 (by decide) ?_
    exact tw_zret X hP isB_0 hF dX8_restore_13
end TWA
