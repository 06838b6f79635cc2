set_option maxRecDepth 100000
section HGA
variable {p : Program} {l : Launch} {e : Env} {s : State} {m : MethodId} {args : Array Value} {below : List Frame} {meth : Method} {c : Code} {D : va_G} {dA : Nat → ClassId} {ad0 : Nat → Nat} {A : Nat → Prop} {g0 : GT}
def P_J7_init (BC BS : Nat) (a0 : Nat) (a1 : Int32) (g : GT) (ι : S) (Q : GT → S → Prop) : Prop := (gK g a0 = 19 ∧ (¬ a1 < 0 ∧ (a1.toNatClampNeg ≤ 100000000 ∧ (a0 < 200 + gN g ∧ ((1 ≤ BC ∧ 0 + a1.toNatClampNeg ≤ BS) ∧ (∀ g6 ι7, g6 = newg g 101 a1.toNatClampNeg → ι7 = newi g ι → (∀ g10, g10 = setg g6 a0 0 (200 + gN g) → (∀ ι12, ι12 = up2 ι7 a0 1 0 → (Q g10 ι12)))))))))
set_option maxHeartbeats 2000000 in
theorem we_J7_init (hnm : meth.name = "<init>") {BC BS : Nat} {Q : GT → S → Prop} : ∀ (a0 : Nat) (a1 : Int32) (g : GT) (ι : S) (ad : Nat → Nat) (H : Heap) (locs : List Loc) (ls : Array Slot), P_J7_init BC BS a0 a1 g ι Q → CX p s m args c meth cJ7_init 2 none RJ7 D dA ad A → PW D dA A s.heap ad (HS g ι) H locs → HA ad0 g0 ad g → LH ad ls 2 [(0, pX a0), (1, iX a1)] → WHv p l e ({ frames := 1, cells := BC, slots := BS, locals := 20 } : Room) s m args below meth c D dA ad0 g0 A Q BC BS H locs (0) (0) (F0 m 0 ls []) := by
  intro a0 a1 g ι ad H locs ls hF X hP hag hl
  unfold P_J7_init at hF
  refine ph_aload_n (n := 0) X hl dJ7_init_0 rfl rfl ?_
  obtain ⟨hm1, hF⟩ := hF
  refine hg_obj X hl (cg_nz hP hm1 (by decide)) q219 q146 (k8 := 0) (cs0 (k := 0)) (by decide) ⟨Nat.le_of_ble_eq_true rfl, Nat.le_of_ble_eq_true rfl⟩ dJ7_init_1 ?_
  refine cg_getsC X hP q220 dJ7_init_4 ?_
  refine lv_if_eq (tgt := 25) X.1 X.2.1 dJ7_init_7 (by decide) (fun c13 => absurd c13 (by decide)) (fun c13 => ?_)
  refine ph_aload_n (n := 0) X hl dJ7_init_10 rfl rfl ?_
  refine ph_iload_n (n := 1) X hl dJ7_init_11 rfl rfl ?_
  obtain ⟨hn2, hF⟩ := hF
  obtain ⟨hn3, hF⟩ := hF
  obtain ⟨hx4, hF⟩ := hF
  obtain ⟨hd5, hF⟩ := hF
  have hl : LH ad ls 2 [(0, pX a0)] := lh_sub hl [0] rfl
  refine hg_newaB [pX a0] X hP hag hl (ltlp hx4 ltln) (ltsp hx4 ltsn) q242 hn2 rfl hn3 hd5 dJ7_init_12 rfl hF (fun H ad g6 ι7 X hP hag he8 hk9 hl hF => ?_)
  show WHv p l e ({ frames := 1, cells := BC, slots := BS, locals := 20 } : Room) s m args below meth c D dA ad0 g0 A Q BC BS H locs (1) (0 + a1.toNatClampNeg) (F0 m 14 ls [rv ad (200 + gN g), rv ad a0])
  refine hg_putr 18 0 X in_J8 tyJ8 tyJ8_ok nmJ8 hP (by rw [hk9.2 _ hx4]; exact hm1) q229 dJ7_init_14 (ltw he8) hF (fun H locs g10 hP he11 hF => ?_) (Or.inr ⟨_, rfl⟩)
  have hag : HA ad0 g0 ad g10 := ⟨by rw [he11.1]; exact hag.1, hag.2⟩
  refine ph_aload_n (n := 0) X hl dJ7_init_17 rfl rfl ?_
  refine lv_iconst (v := 0) X.1 X.2.1 dJ7_init_18 (by decide) ?_
  refine hg_puti 18 1 X in_J8 tyJ8 tyJ8_ok nmJ8 hP (by rw [he11.2.1]; exact (by rw [hk9.2 _ hx4]; exact hm1)) q230 dJ7_init_19 (by decide +kernel) (by decide +kernel) hF (fun H locs ι12 hP hF => ?_)
  refine lv_goto (tgt := 38) X.1 X.2.1 dJ7_init_22 (by decide) ?_
  exact hg_vret X hP hag hF hd5.1 hd5.2 dJ7_init_38
set_option maxHeartbeats 2000000 in
theorem met_J7_init (l : Launch) (D : va_G) (dA : Nat → ClassId) (ad : Nat → Nat) (BC BS : Nat) (g : GT) (ι : S) (sz : Nat) {a0 : Nat} {a1 : Int32} {Q : GT → S → Prop} (hF : P_J7_init BC BS a0 a1 g ι Q) : CHv l yJ7_init cJ7_init 2 ({ frames := 1, cells := BC, slots := BS, locals := 20 } : Room) D dA ad g ι sz [pX a0, iX a1] Q BC BS := by
  refine ph_enter [pX a0, iX a1] (Qc := fun A => HPv D dA ad g A Q) (by decide +kernel) (Nat.le_of_ble_eq_true rfl) ?_
  intro p e s m args below meth c A ls X hP hl hnm
  have hnm : meth.name = "<init>" := hnm
  exact we_J7_init hnm _ _ _ _ _ _ _ _ hF X hP HA.rf hl
def P_J8_init_2 (BC BS : Nat) (a0 : Nat) (a1 : Int32) (g : GT) (ι : S) (Q : GT → S → Prop) : Prop := (∃ b1 d2, ((0 + b1 ≤ BC ∧ 0 + d2 ≤ BS) ∧ (gK g a0 = 19 ∧ (P_J7_init b1 d2 a0 a1 g ι (fun g4 ι5 => (Q g4 ι5))))))
set_option maxHeartbeats 2000000 in
theorem we_J8_init_2 (hnm : meth.name = "<init>") {BC BS : Nat} {Q : GT → S → Prop} : ∀ (a0 : Nat) (a1 : Int32) (g : GT) (ι : S) (ad : Nat → Nat) (H : Heap) (locs : List Loc) (ls : Array Slot), P_J8_init_2 BC BS a0 a1 g ι Q → CX p s m args c meth cJ8_init_2 2 none RJ8 D dA ad A → PW D dA A s.heap ad (HS g ι) H locs → HA ad0 g0 ad g → LH ad ls 2 [(0, pX a0), (1, iX a1)] → WHv p l e ({ frames := 2, cells := BC, slots := BS, locals := 41 } : Room) s m args below meth c D dA ad0 g0 A Q BC BS H locs (0) (0) (F0 m 0 ls []) := by
  intro a0 a1 g ι ad H locs ls hF X hP hag hl
  unfold P_J8_init_2 at hF
  refine ph_aload_n (n := 0) X hl dJ8_init_2_0 rfl rfl ?_
  refine ph_iload_n (n := 1) X hl dJ8_init_2_1 rfl rfl ?_
  obtain ⟨b1, d2, hF⟩ := hF
  obtain ⟨hd3, hF⟩ := hF
  obtain ⟨hm9, hF⟩ := hF
  have hl : LH ad ls 2 [] := lh_sub hl [] rfl
  refine hg_callI [iX a1] [] X hP (cg_nz hP hm9 (by decide)) (met_J7_init l D dA ad _ _ _ _ _ hF) (cwI 1 X.2.2.2.2.1 (lw_meth q218) rfl rfl rfl (X.2.2.2.2.1 _ q107) (X.2.2.2.2.1 _ q216) (X.2.2.2.2.1 _ q217) rfl (by decide +kernel) ⟨Nat.le_of_ble_eq_true rfl, Nat.le_of_ble_eq_true rfl⟩) rfl hag hl ltln ltsn (k8 := 0) (cs0 (k := 0)) (by decide) hd3 dJ8_init_2_2 rfl (fun ad g4 ι5 H locs hF X hP hag he6 hl => ?_)
  show WHv p l e ({ frames := 2, cells := BC, slots := BS, locals := 41 } : Room) s m args below meth c D dA ad0 g0 A Q BC BS H locs (0 + b1) (0 + d2) (F0 m 5 ls [])
  exact hg_vret X hP hag hF hd3.1 hd3.2 dJ8_init_2_5
set_option maxHeartbeats 2000000 in
theorem met_J8_init_2 (l : Launch) (D : va_G) (dA : Nat → ClassId) (ad : Nat → Nat) (BC BS : Nat) (g : GT) (ι : S) (sz : Nat) {a0 : Nat} {a1 : Int32} {Q : GT → S → Prop} (hF : P_J8_init_2 BC BS a0 a1 g ι Q) : CHv l yJ8_init_2 cJ8_init_2 2 ({ frames := 2, cells := BC, slots := BS, locals := 41 } : Room) D dA ad g ι sz [pX a0, iX a1] Q BC BS := by
  refine ph_enter [pX a0, iX a1] (Qc := fun A => HPv D dA ad g A Q) (by decide +kernel) (Nat.le_of_ble_eq_true rfl) ?_
  intro p e s m args below meth c A ls X hP hl hnm
  have hnm : meth.name = "<init>" := hnm
  exact we_J8_init_2 hnm _ _ _ _ _ _ _ _ hF X hP HA.rf hl
def P_J7_isLatin1 (BC BS : Nat) (a0 : Nat) (g : GT) (ι : S) (Q : Int32 → GT → S → Prop) : Prop := (gK g a0 = 19 ∧ ((¬ (ι a0 1) = 0 → (Q 0 g ι)) ∧ ((ι a0 1) = 0 → (Q 1 g ι))))
set_option maxHeartbeats 2000000 in
theorem we_J7_isLatin1 (hnm : meth.name = "isLatin1") {BC BS : Nat} {Q : Int32 → GT → S → Prop} : ∀ (a0 : Nat) (g : GT) (ι : S) (ad : Nat → Nat) (H : Heap) (locs : List Loc) (ls : Array Slot), P_J7_isLatin1 BC BS a0 g ι Q → CX p s m args c meth cJ7_isLatin1 1 (some .boolean) RJ7 D dA ad A → PW D dA A s.heap ad (HS g ι) H locs → HA ad0 g0 ad g → LH ad ls 1 [(0, pX a0)] → WHi p l e ({ frames := 0, cells := BC, slots := BS, locals := 0 } : Room) s m args below meth c D dA ad0 g0 A Q BC BS H locs (0) (0) (F0 m 0 ls []) := by
  intro a0 g ι ad H locs ls hF X hP hag hl
  unfold P_J7_isLatin1 at hF
  refine cg_getsC X hP q220 dJ7_isLatin1_0 ?_
  refine lv_if_eq (tgt := 17) X.1 X.2.1 dJ7_isLatin1_3 (by decide) (fun c3 => absurd c3 (by decide)) (fun c3 => ?_)
  refine ph_aload_n (n := 0) X hl dJ7_isLatin1_6 rfl rfl ?_
  obtain ⟨hm1, hF⟩ := hF
  refine cg_geti 18 1 X in_J8 hP hm1 q230 dJ7_isLatin1_7 ?_
  refine lv_if_ne (tgt := 17) X.1 X.2.1 dJ7_isLatin1_10 (by decide) (fun c2 => ?_) (fun c2 => ?_)
  · have hF := hF.1 c2
    refine lv_iconst (v := 0) X.1 X.2.1 dJ7_isLatin1_17 (by decide) ?_
    exact hg_zret X hP hag (isB_nar isB_0) hF (Nat.zero_le _) (Nat.zero_le _) dJ7_isLatin1_18
  · have hF := hF.2 c2
    refine lv_iconst (v := 1) X.1 X.2.1 dJ7_isLatin1_13 (by decide) ?_
    refine lv_goto (tgt := 18) X.1 X.2.1 dJ7_isLatin1_14 (by decide) ?_
    exact hg_zret X hP hag (isB_nar isB_1) hF (Nat.zero_le _) (Nat.zero_le _) dJ7_isLatin1_18
set_option maxHeartbeats 2000000 in
theorem met_J7_isLatin1 (l : Launch) (D : va_G) (dA : Nat → ClassId) (ad : Nat → Nat) (BC BS : Nat) (g : GT) (ι : S) (sz : Nat) {a0 : Nat} {Q : Int32 → GT → S → Prop} (hF : P_J7_isLatin1 BC BS a0 g ι Q) : CHi l yJ7_isLatin1 cJ7_isLatin1 1 .boolean ({ frames := 0, cells := BC, slots := BS, locals := 0 } : Room) D dA ad g ι sz [pX a0] Q BC BS := by
  refine ph_enter [pX a0] (Qc := fun A => HPi D dA ad g A Q) (by decide +kernel) (Nat.le_of_ble_eq_true rfl) ?_
  intro p e s m args below meth c A ls X hP hl hnm
  have hnm : meth.name = "isLatin1" := hnm
  exact we_J7_isLatin1 hnm _ _ _ _ _ _ _ hF X hP HA.rf hl
def P_J7_ensureCapacityInternal (BC BS : Nat) (a0 : Nat) (a1 : Int32) (g : GT) (ι : S) (Q : GT → S → Prop) : Prop := (gK g a0 = 19 ∧ (gK g (gR g a0 0) = 101 ∧ ((a1 - ((nI (gL g (gR g a0 0))) >>> (((ι a0 1) : Int32) &&& 31))) ≤ 0 ∧ (Q g ι))))
set_option maxHeartbeats 2000000 in
theorem we_J7_ensureCapacityInternal (hnm : meth.name = "ensureCapacityInternal") {BC BS : Nat} {Q : GT → S → Prop} : ∀ (a0 : Nat) (a1 : Int32) (g : GT) (ι : S) (ad : Nat → Nat) (H : Heap) (locs : List Loc) (ls : Array Slot), P_J7_ensureCapacityInternal BC BS a0 a1 g ι Q → CX p s m args c meth cJ7_ensureCapacityInternal 3 none RJ7 D dA ad A → PW D dA A s.heap ad (HS g ι) H locs → HA ad0 g0 ad g → LH ad ls 3 [(0, pX a0), (1, iX a1)] → WHv p l e ({ frames := 0, cells := BC, slots := BS, locals := 0 } : Room) s m args below meth c D dA ad0 g0 A Q BC BS H locs (0) (0) (F0 m 0 ls []) := by
  intro a0 a1 g ι ad H locs ls hF X hP hag hl
  unfold P_J7_ensureCapacityInternal at hF
  refine ph_aload_n (n := 0) X hl dJ7_ensureCapacityInternal_0 rfl rfl ?_
  obtain ⟨hm1, hF⟩ := hF
  have hv2 := gR_lt hP a0 0
  refine cg_getr 18 0 X in_J8 hP hm1 q229 dJ7_ensureCapacityInternal_1 ?_
  obtain ⟨hm3, hF⟩ := hF
  refine cg_alenB X hP hm3 dJ7_ensureCapacityInternal_4 ?_
  refine ph_aload_n (n := 0) X hl dJ7_ensureCapacityInternal_5 rfl rfl ?_
  refine cg_geti 18 1 X in_J8 hP hm1 q230 dJ7_ensureCapacityInternal_6 ?_
  refine lv_ishr X.1 X.2.1 dJ7_ensureCapacityInternal_9 ?_
  refine ph_istore_n X hl dJ7_ensureCapacityInternal_10 rfl (by decide) rfl (fun ls hl => ?_)
  refine ph_iload_n (n := 2) X hl dJ7_ensureCapacityInternal_11 rfl rfl ?_
  refine ph_iload_n (n := 0) X hl dJ7_ensureCapacityInternal_12 rfl rfl ?_
  refine lv_isub X.1 X.2.1 dJ7_ensureCapacityInternal_13 ?_
  obtain ⟨hq5, hF⟩ := hF
  refine lv_if_le (tgt := 38) X.1 X.2.1 dJ7_ensureCapacityInternal_14 (by decide) (fun c4 => ?_) (fun c4 => absurd hq5 c4)
  exact hg_vret X hP hag hF (Nat.zero_le _) (Nat.zero_le _) dJ7_ensureCapacityInternal_38
set_option maxHeartbeats 2000000 in
theorem met_J7_ensureCapacityInternal (l : Launch) (D : va_G) (dA : Nat → ClassId) (ad : Nat → Nat) (BC BS : Nat) (g : GT) (ι : S) (sz : Nat) {a0 : Nat} {a1 : Int32} {Q : GT → S → Prop} (hF : P_J7_ensureCapacityInternal BC BS a0 a1 g ι Q) : CHv l yJ7_ensureCapacityInternal cJ7_ensureCapacityInternal 3 ({ frames := 0, cells := BC, slots := BS, locals := 0 } : Room) D dA ad g ι sz [pX a0, iX a1] Q BC BS := by
  refine ph_enter [pX a0, iX a1] (Qc := fun A => HPv D dA ad g A Q) (by decide +kernel) (Nat.le_of_ble_eq_true rfl) ?_
  intro p e s m args below meth c A ls X hP hl hnm
  have hnm : meth.name = "ensureCapacityInternal" := hnm
  exact we_J7_ensureCapacityInternal hnm _ _ _ _ _ _ _ _ hF X hP HA.rf hl
def P_J7_append_3 (BC BS : Nat) (a0 : Nat) (a1 : Int32) (g : GT) (ι : S) (Q : Nat → GT → S → Prop) : Prop := (gK g a0 = 19 ∧ (a0 < 200 + gN g ∧ ((0 ≤ BC ∧ 0 ≤ BS) ∧ (P_J7_ensureCapacityInternal 0 0 a0 ((ι a0 3) + 1) g ι (fun g4 ι5 => ((0 ≤ BC ∧ 0 ≤ BS) ∧ (gK g4 a0 = 19 ∧ (P_J7_isLatin1 0 0 a0 g4 ι5 (fun r13 g10 ι11 => (¬ r13 = 0 ∧ (P_J15_canEncode g10 a1 ι11 (fun r17 ι18 => (¬ r17 = 0 ∧ (gK g10 a0 = 19 ∧ (∀ ι24, ι24 = up2 ι18 a0 3 ((ι18 a0 3) + 1) → (gK g10 (gR g10 a0 0) = 101 ∧ (vp_in (ι18 a0 3) (gL g10 (gR g10 a0 0)) ∧ (∀ ι26, ι26 = up2 ι24 (gR g10 a0 0) ((ι18 a0 3).toNatClampNeg) (vp_nar .byte a1.toInt8.toInt32) → (Q a0 g10 ι26)))))))))))))))))))
set_option maxHeartbeats 2000000 in
theorem we_J7_append_3 (hnm : meth.name = "append") {BC BS : Nat} {Q : Nat → GT → S → Prop} : ∀ (a0 : Nat) (a1 : Int32) (g : GT) (ι : S) (ad : Nat → Nat) (H : Heap) (locs : List Loc) (ls : Array Slot), P_J7_append_3 BC BS a0 a1 g ι Q → CX p s m args c meth cJ7_append_3 2 (some (.object "java/lang/AbstractStringBuilder")) RJ7 D dA ad A → PW D dA A s.heap ad (HS g ι) H locs → HA ad0 g0 ad g → LH ad ls 2 [(0, pX a0), (1, iX a1)] → WHq p l e ({ frames := 1, cells := BC, slots := BS, locals := 22 } : Room) s m args below meth c D dA ad0 g0 A Q BC BS H locs (0) (0) (F0 m 0 ls []) := by
  intro a0 a1 g ι ad H locs ls hF X hP hag hl
  unfold P_J7_append_3 at hF
  refine ph_aload_n (n := 0) X hl dJ7_append_3_0 rfl rfl ?_
  refine ph_aload_n (n := 0) X hl dJ7_append_3_1 rfl rfl ?_
  obtain ⟨hm1, hF⟩ := hF
  refine cg_geti 18 3 X in_J8 hP hm1 q232 dJ7_append_3_2 ?_
  refine lv_iconst (v := 1) X.1 X.2.1 dJ7_append_3_5 (by decide) ?_
  refine lv_iadd X.1 X.2.1 dJ7_append_3_6 ?_
  obtain ⟨hx2, hF⟩ := hF
  obtain ⟨hd3, hF⟩ := hF
  refine hg_callVv 18 [iX ((ι a0 3) + 1)] [] X hP hm1 (met_J7_ensureCapacityInternal l D dA ad _ _ _ _ _ hF) (cwVx 1 X.2.2.2.2.1 (lw_meth q258) rfl rfl rfl (X.2.2.2.2.1 _ q107) (X.2.2.2.2.1 _ q255) (X.2.2.2.2.1 _ q257) X.2.2.2.2.2.2.1.2.2.2.2.2.2.2.2.2.2.2.2.2.1 (by decide +kernel) ⟨Nat.le_of_ble_eq_true rfl, Nat.le_of_ble_eq_true rfl⟩) rfl hag hl (ltlp hx2 (ltli ltln)) ltsn (k8 := 0) (cs0 (k := 0)) (by decide) hd3 dJ7_append_3_7 rfl (fun ad g4 ι5 H locs hF X hP hag he6 hl => ?_)
  show WHq p l e ({ frames := 1, cells := BC, slots := BS, locals := 22 } : Room) s m args below meth c D dA ad0 g0 A Q BC BS H locs (0) (0) (F0 m 10 ls [])
  refine ph_aload_n (n := 0) X hl dJ7_append_3_10 rfl rfl ?_
  obtain ⟨hd9, hF⟩ := hF
  obtain ⟨hm28, hF⟩ := hF
  refine hg_callVi 18 [] [] X hP hm28 (met_J7_isLatin1 l D dA ad _ _ _ _ _ hF) (cwVx 0 X.2.2.2.2.1 (lw_meth q294) rfl rfl rfl (X.2.2.2.2.1 _ q107) (X.2.2.2.2.1 _ q290) (X.2.2.2.2.1 _ q291) (va_tabs rfl rfl (X.2.2.2.2.1 _ q293)) (by decide +kernel) ⟨Nat.le_of_ble_eq_true rfl, Nat.le_of_ble_eq_true rfl⟩) rfl hag hl (ltlp (ltm hx2 he6) (ltli ltln)) ltsn (k8 := 0) (cs0 (k := 0)) (by decide) hd9 dJ7_append_3_11 rfl (fun r13 ad g10 ι11 H locs hF X hP hag he12 hl => ?_)
  show WHq p l e ({ frames := 1, cells := BC, slots := BS, locals := 22 } : Room) s m args below meth c D dA ad0 g0 A Q BC BS H locs (0) (0) (F0 m 14 ls [.int r13])
  obtain ⟨hq16, hF⟩ := hF
  refine lv_if_eq (tgt := 45) X.1 X.2.1 dJ7_append_3_14 (by decide) (fun c15 => absurd c15 hq16) (fun c15 => ?_)
  refine ph_iload_n (n := 1) X hl dJ7_append_3_17 rfl rfl ?_
  refine cg_callSi [iX a1] X hP (met_J15_canEncode l D dA ad g10 _ _ hF) (va_cwS 1 X.2.2.2.2.1 (lw_S q1207 q1208 q116 q1209) rfl rfl rfl (by decide +kernel) ⟨Nat.le_of_ble_eq_true rfl, Nat.le_of_ble_eq_true rfl⟩) rfl hl (k8 := 0) (cs0 (k := 0)) (by decide) ⟨Nat.zero_le _, Nat.zero_le _⟩ dJ7_append_3_18 rfl (fun r17 ι18 H locs hF hP => ?_)
  obtain ⟨hq21, hF⟩ := hF
  refine lv_if_eq (tgt := 45) X.1 X.2.1 dJ7_append_3_21 (by decide) (fun c20 => absurd c20 hq21) (fun c20 => ?_)
  refine ph_aload_n (n := 0) X hl dJ7_append_3_24 rfl rfl ?_
  obtain ⟨hm22, hF⟩ := hF
  have hv23 := gR_lt hP a0 0
  refine cg_getr 18 0 X in_J8 hP hm22 q229 dJ7_append_3_25 ?_
  refine ph_aload_n (n := 0) X hl dJ7_append_3_28 rfl rfl ?_
  refine ph_dup_r X dJ7_append_3_29 ?_
  refine cg_geti 18 3 X in_J8 hP hm22 q232 dJ7_append_3_30 ?_
  refine ph_dup_x1_ri X dJ7_append_3_33 ?_
  refine lv_iconst (v := 1) X.1 X.2.1 dJ7_append_3_34 (by decide) ?_
  refine lv_iadd X.1 X.2.1 dJ7_append_3_35 ?_
  refine hg_puti 18 3 X in_J8 tyJ8 tyJ8_ok nmJ8 hP hm22 q232 dJ7_append_3_36 rfl rfl hF (fun H locs ι24 hP hF => ?_)
  refine ph_iload_n (n := 1) X hl dJ7_append_3_39 rfl rfl ?_
  refine lv_i2b X.1 X.2.1 dJ7_append_3_40 rfl ?_
  obtain ⟨hm25, hF⟩ := hF
  obtain ⟨hr27, hF⟩ := hF
  refine cg_bast X hP hm25 hr27 (k := (ι18 a0 3).toNatClampNeg) rfl dJ7_append_3_41 hF (fun H locs ι26 hP hF => ?_)
  refine lv_goto (tgt := 75) X.1 X.2.1 dJ7_append_3_42 (by decide) ?_
  refine ph_aload_n (n := 0) X hl dJ7_append_3_75 rfl rfl ?_
  exact hg_aret X hP hag (Or.inl ⟨_, rfl⟩) (ltm (ltm hx2 he6) he12) hF (Nat.zero_le _) (Nat.zero_le _) dJ7_append_3_76
set_option maxHeartbeats 2000000 in
theorem met_J7_append_3 (l : Launch) (D : va_G) (dA : Nat → ClassId) (ad : Nat → Nat) (BC BS : Nat) (g : GT) (ι : S) (sz : Nat) {a0 : Nat} {a1 : Int32} {Q : Nat → GT → S → Prop} (hF : P_J7_append_3 BC BS a0 a1 g ι Q) : CHq l yJ7_append_3 cJ7_append_3 2 (.object "java/lang/AbstractStringBuilder") ({ frames := 1, cells := BC, slots := BS, locals := 22 } : Room) D dA ad g ι sz [pX a0, iX a1] Q BC BS := by
  refine ph_enter [pX a0, iX a1] (Qc := fun A => HPq D dA ad g A Q) (by decide +kernel) (Nat.le_of_ble_eq_true rfl) ?_
  intro p e s m args below meth c A ls X hP hl hnm
  have hnm : meth.name = "append" := hnm
  exact we_J7_append_3 hnm _ _ _ _ _ _ _ _ hF X hP HA.rf hl
def P_J8_append_3 (BC BS : Nat) (a0 : Nat) (a1 : Int32) (g : GT) (ι : S) (Q : Nat → GT → S → Prop) : Prop := (a0 < 200 + gN g ∧ ((0 ≤ BC ∧ 0 ≤ BS) ∧ (gK g a0 = 19 ∧ (P_J7_append_3 0 0 a0 a1 g ι (fun r6 g3 ι4 => (Q a0 g3 ι4))))))
set_option maxHeartbeats 2000000 in
theorem we_J8_append_3 (hnm : meth.name = "append") {BC BS : Nat} {Q : Nat → GT → S → Prop} : ∀ (a0 : Nat) (a1 : Int32) (g : GT) (ι : S) (ad : Nat → Nat) (H : Heap) (locs : List Loc) (ls : Array Slot), P_J8_append_3 BC BS a0 a1 g ι Q → CX p s m args c meth cJ8_append_3 2 (some (.object "java/lang/StringBuilder")) RJ8 D dA ad A → PW D dA A s.heap ad (HS g ι) H locs → HA ad0 g0 ad g → LH ad ls 2 [(0, pX a0), (1, iX a1)] → WHq p l e ({ frames := 2, cells := BC, slots := BS, locals := 43 } : Room) s m args below meth c D dA ad0 g0 A Q BC BS H locs (0) (0) (F0 m 0 ls []) := by
  intro a0 a1 g ι ad H locs ls hF X hP hag hl
  unfold P_J8_append_3 at hF
  refine ph_aload_n (n := 0) X hl dJ8_append_3_0 rfl rfl ?_
  refine ph_iload_n (n := 1) X hl dJ8_append_3_1 rfl rfl ?_
  obtain ⟨hx1, hF⟩ := hF
  obtain ⟨hd2, hF⟩ := hF
  obtain ⟨hm8, hF⟩ := hF
  have hl : LH ad ls 2 [(0, pX a0)] := lh_sub hl [0] rfl
  refine hg_callZq 18 [iX a1] [] X hP hm8 (met_J7_append_3 l D dA ad _ _ _ _ _ hF) (va_cwSU 1 X.2.2.2.2.1 (lw_SU q1204 q2394 q241 q1205 q107 q1206) rfl rfl rfl (by decide +kernel) ⟨Nat.le_of_ble_eq_true rfl, Nat.le_of_ble_eq_true rfl⟩) rfl hag hl (ltlp hx1 ltln) ltsn (k8 := 0) (cs0 (k := 0)) (by decide) hd2 dJ8_append_3_2 rfl (fun r6 ad g3 ι4 H locs hF hv7 X hP hag he5 hl => ?_)
  show WHq p l e ({ frames := 2, cells := BC, slots := BS, locals := 43 } : Room) s m args below meth c D dA ad0 g0 A Q BC BS H locs (0) (0) (F0 m 5 ls [rv ad r6])
  refine ph_pop_r X dJ8_append_3_5 ?_
  refine ph_aload_n (n := 0) X hl dJ8_append_3_6 rfl rfl ?_
  exact hg_aret X hP hag (Or.inl ⟨_, rfl⟩) (ltm hx1 he5) hF (Nat.zero_le _) (Nat.zero_le _) dJ8_append_3_7
set_option maxHeartbeats 2000000 in
theorem met_J8_append_3 (l : Launch) (D : va_G) (dA : Nat → ClassId) (ad : Nat → Nat) (BC BS : Nat) (g : GT) (ι : S) (sz : Nat) {a0 : Nat} {a1 : Int32} {Q : Nat → GT → S → Prop} (hF : P_J8_append_3 BC BS a0 a1 g ι Q) : CHq l yJ8_append_3 cJ8_append_3 2 (.object "java/lang/StringBuilder") ({ frames := 2, cells := BC, slots := BS, locals := 43 } : Room) D dA ad g ι sz [pX a0, iX a1] Q BC BS := by
  refine ph_enter [pX a0, iX a1] (Qc := fun A => HPq D dA ad g A Q) (by decide +kernel) (Nat.le_of_ble_eq_true rfl) ?_
  intro p e s m args below meth c A ls X hP hl hnm
  have hnm : meth.name = "append" := hnm
  exact we_J8_append_3 hnm _ _ _ _ _ _ _ _ hF X hP HA.rf hl
def P_J7_length (BC BS : Nat) (a0 : Nat) (g : GT) (ι : S) (Q : Int32 → GT → S → Prop) : Prop := (gK g a0 = 19 ∧ (Q (ι a0 3) g ι))
set_option maxHeartbeats 2000000 in
theorem we_J7_length (hnm : meth.name = "length") {BC BS : Nat} {Q : Int32 → GT → S → Prop} : ∀ (a0 : Nat) (g : GT) (ι : S) (ad : Nat → Nat) (H : Heap) (locs : List Loc) (ls : Array Slot), P_J7_length BC BS a0 g ι Q → CX p s m args c meth cJ7_length 1 (some .int) RJ7 D dA ad A → PW D dA A s.heap ad (HS g ι) H locs → HA ad0 g0 ad g → LH ad ls 1 [(0, pX a0)] → WHi p l e ({ frames := 0, cells := BC, slots := BS, locals := 0 } : Room) s m args below meth c D dA ad0 g0 A Q BC BS H locs (0) (0) (F0 m 0 ls []) := by
  intro a0 g ι ad H locs ls hF X hP hag hl
  unfold P_J7_length at hF
  refine ph_aload_n (n := 0) X hl dJ7_length_0 rfl rfl ?_
  obtain ⟨hm1, hF⟩ := hF
  refine cg_geti 18 3 X in_J8 hP hm1 q232 dJ7_length_1 ?_
  exact hg_iret X hP hag hF (Nat.zero_le _) (Nat.zero_le _) dJ7_length_4
set_option maxHeartbeats 2000000 in
theorem met_J7_length (l : Launch) (D : va_G) (dA : Nat → ClassId) (ad : Nat → Nat) (BC BS : Nat) (g : GT) (ι : S) (sz : Nat) {a0 : Nat} {Q : Int32 → GT → S → Prop} (hF : P_J7_length BC BS a0 g ι Q) : CHi l yJ7_length cJ7_length 1 .int ({ frames := 0, cells := BC, slots := BS, locals := 0 } : Room) D dA ad g ι sz [pX a0] Q BC BS := by
  refine ph_enter [pX a0] (Qc := fun A => HPi D dA ad g A Q) (by decide +kernel) (Nat.le_of_ble_eq_true rfl) ?_
  intro p e s m args below meth c A ls X hP hl hnm
  have hnm : meth.name = "length" := hnm
  exact we_J7_length hnm _ _ _ _ _ _ _ hF X hP HA.rf hl
def P_J8_length (BC BS : Nat) (a0 : Nat) (g : GT) (ι : S) (Q : Int32 → GT → S → Prop) : Prop := ((0 ≤ BC ∧ 0 ≤ BS) ∧ (gK g a0 = 19 ∧ (P_J7_length 0 0 a0 g ι (fun r5 g2 ι3 => (Q r5 g2 ι3)))))
set_option maxHeartbeats 2000000 in
theorem we_J8_length (hnm : meth.name = "length") {BC BS : Nat} {Q : Int32 → GT → S → Prop} : ∀ (a0 : Nat) (g : GT) (ι : S) (ad : Nat → Nat) (H : Heap) (locs : List Loc) (ls : Array Slot), P_J8_length BC BS a0 g ι Q → CX p s m args c meth cJ8_length 1 (some .int) RJ8 D dA ad A → PW D dA A s.heap ad (HS g ι) H locs → HA ad0 g0 ad g → LH ad ls 1 [(0, pX a0)] → WHi p l e ({ frames := 1, cells := BC, slots := BS, locals := 20 } : Room) s m args below meth c D dA ad0 g0 A Q BC BS H locs (0) (0) (F0 m 0 ls []) := by
  intro a0 g ι ad H locs ls hF X hP hag hl
  unfold P_J8_length at hF
  refine ph_aload_n (n := 0) X hl dJ8_length_0 rfl rfl ?_
  obtain ⟨hd1, hF⟩ := hF
  obtain ⟨hm7, hF⟩ := hF
  have hl : LH ad ls 1 [] := lh_sub hl [] rfl
  refine hg_callZi 18 [] [] X hP hm7 (met_J7_length l D dA ad _ _ _ _ _ hF) (va_cwSU 0 X.2.2.2.2.1 (lw_SU q413 q409 q241 q408 q107 q414) rfl rfl rfl (by decide +kernel) ⟨Nat.le_of_ble_eq_true rfl, Nat.le_of_ble_eq_true rfl⟩) rfl hag hl ltln ltsn (k8 := 0) (cs0 (k := 0)) (by decide) hd1 dJ8_length_1 rfl (fun r5 ad g2 ι3 H locs hF X hP hag he4 hl => ?_)
  show WHi p l e ({ frames := 1, cells := BC, slots := BS, locals := 20 } : Room) s m args below meth c D dA ad0 g0 A Q BC BS H locs (0) (0) (F0 m 4 ls [.int r5])
  exact hg_iret X hP hag hF (Nat.zero_le _) (Nat.zero_le _) dJ8_length_4
set_option maxHeartbeats 2000000 in
theorem met_J8_length (l : Launch) (D : va_G) (dA : Nat → ClassId) (ad : Nat → Nat) (BC BS : Nat) (g : GT) (ι : S) (sz : Nat) {a0 : Nat} {Q : Int32 → GT → S → Prop} (hF : P_J8_length BC BS a0 g ι Q) : CHi l yJ8_length cJ8_length 1 .int ({ frames := 1, cells := BC, slots := BS, locals := 20 } : Room) D dA ad g ι sz [pX a0] Q BC BS := by
  refine ph_enter [pX a0] (Qc := fun A => HPi D dA ad g A Q) (by decide +kernel) (Nat.le_of_ble_eq_true rfl) ?_
  intro p e s m args below meth c A ls X hP hl hnm
  have hnm : meth.name = "length" := hnm
  exact we_J8_length hnm _ _ _ _ _ _ _ hF X hP HA.rf hl
def P_J7_getValue (BC BS : Nat) (a0 : Nat) (g : GT) (ι : S) (Q : Nat → GT → S → Prop) : Prop := (gK g a0 = 19 ∧ (Q (gR g a0 0) g ι))
set_option maxHeartbeats 2000000 in
theorem we_J7_getValue (hnm : meth.name = "getValue") {BC BS : Nat} {Q : Nat → GT → S → Prop} : ∀ (a0 : Nat) (g : GT) (ι : S) (ad : Nat → Nat) (H : Heap) (locs : List Loc) (ls : Array Slot), P_J7_getValue BC BS a0 g ι Q → CX p s m args c meth cJ7_getValue 1 (some (.array .byte)) RJ7 D dA ad A → PW D dA A s.heap ad (HS g ι) H locs → HA ad0 g0 ad g → LH ad ls 1 [(0, pX a0)] → WHq p l e ({ frames := 0, cells := BC, slots := BS, locals := 0 } : Room) s m args below meth c D dA ad0 g0 A Q BC BS H locs (0) (0) (F0 m 0 ls []) := by
  intro a0 g ι ad H locs ls hF X hP hag hl
  unfold P_J7_getValue at hF
  refine ph_aload_n (n := 0) X hl dJ7_getValue_0 rfl rfl ?_
  obtain ⟨hm1, hF⟩ := hF
  have hv2 := gR_lt hP a0 0
  refine cg_getr 18 0 X in_J8 hP hm1 q229 dJ7_getValue_1 ?_
  exact hg_aret X hP hag (Or.inr ⟨_, rfl⟩) hv2 hF (Nat.zero_le _) (Nat.zero_le _) dJ7_getValue_4
set_option maxHeartbeats 2000000 in
theorem met_J7_getValue (l : Launch) (D : va_G) (dA : Nat → ClassId) (ad : Nat → Nat) (BC BS : Nat) (g : GT) (ι : S) (sz : Nat) {a0 : Nat} {Q : Nat → GT → S → Prop} (hF : P_J7_getValue BC BS a0 g ι Q) : CHq l yJ7_getValue cJ7_getValue 1 (.array .byte) ({ frames := 0, cells := BC, slots := BS, locals := 0 } : Room) D dA ad g ι sz [pX a0] Q BC BS := by
  refine ph_enter [pX a0] (Qc := fun A => HPq D dA ad g A Q) (by decide +kernel) (Nat.le_of_ble_eq_true rfl) ?_
  intro p e s m args below meth c A ls X hP hl hnm
  have hnm : meth.name = "getValue" := hnm
  exact we_J7_getValue hnm _ _ _ _ _ _ _ hF X hP HA.rf hl
def P_J13_checkLength (BC BS : Nat) (a0 : Int32) (a1 : Int32) (g : GT) (ι : S) (Q : GT → S → Prop) : Prop := (a0 ≤ a1 ∧ (Q g ι))
set_option maxHeartbeats 2000000 in
theorem we_J13_checkLength (hnm : meth.name = "checkLength") {BC BS : Nat} {Q : GT → S → Prop} : ∀ (a0 : Int32) (a1 : Int32) (g : GT) (ι : S) (ad : Nat → Nat) (H : Heap) (locs : List Loc) (ls : Array Slot), P_J13_checkLength BC BS a0 a1 g ι Q → CX p s m args c meth cJ13_checkLength 2 none RJ13 D dA ad A → PW D dA A s.heap ad (HS g ι) H locs → HA ad0 g0 ad g → LH ad ls 2 [(0, iX a0), (1, iX a1)] → WHv p l e ({ frames := 0, cells := BC, slots := BS, locals := 0 } : Room) s m args below meth c D dA ad0 g0 A Q BC BS H locs (0) (0) (F0 m 0 ls []) := by
  intro a0 a1 g ι ad H locs ls hF X hP hag hl
  unfold P_J13_checkLength at hF
  refine ph_iload_n (n := 1) X hl dJ13_checkLength_0 rfl rfl ?_
  refine ph_iload_n (n := 0) X hl dJ13_checkLength_1 rfl rfl ?_
  obtain ⟨hq2, hF⟩ := hF
  refine lv_icmp_ge (tgt := 37) X.1 X.2.1 dJ13_checkLength_2 (by decide) (fun c1 => ?_) (fun c1 => absurd hq2 c1)
  exact hg_vret X hP hag hF (Nat.zero_le _) (Nat.zero_le _) dJ13_checkLength_37
set_option maxHeartbeats 2000000 in
theorem met_J13_checkLength (l : Launch) (D : va_G) (dA : Nat → ClassId) (ad : Nat → Nat) (BC BS : Nat) (g : GT) (ι : S) (sz : Nat) {a0 : Int32} {a1 : Int32} {Q : GT → S → Prop} (hF : P_J13_checkLength BC BS a0 a1 g ι Q) : CHv l yJ13_checkLength cJ13_checkLength 2 ({ frames := 0, cells := BC, slots := BS, locals := 0 } : Room) D dA ad g ι sz [iX a0, iX a1] Q BC BS := by
  refine ph_enter [iX a0, iX a1] (Qc := fun A => HPv D dA ad g A Q) (by decide +kernel) (Nat.le_of_ble_eq_true rfl) ?_
  intro p e s m args below meth c A ls X hP hl hnm
  have hnm : meth.name = "checkLength" := hnm
  exact we_J13_checkLength hnm _ _ _ _ _ _ _ _ hF X hP HA.rf hl
def P_J13_copyOfRangeByte (BC BS : Nat) (a0 : Nat) (a1 : Int32) (a2 : Int32) (g : GT) (ι : S) (Q : Nat → GT → S → Prop) : Prop := (a0 < 200 + gN g ∧ ((0 ≤ BC ∧ 0 ≤ BS) ∧ (P_J13_checkLength 0 0 a1 a2 g ι (fun g3 ι4 => (¬ (a2 - a1) < 0 ∧ ((a2 - a1).toNatClampNeg ≤ 100000000 ∧ ((1 ≤ BC ∧ 0 + (a2 - a1).toNatClampNeg ≤ BS) ∧ (∀ g11 ι12, g11 = newg g3 101 ((a2 - a1).toNatClampNeg) → ι12 = newi g3 ι4 → (gK g11 a0 = 101 ∧ (¬ a1 < 0 ∧ (¬ (if (a2 - a1) < ((nI (gL g11 a0)) - a1) then a2 - a1 else (nI (gL g11 a0)) - a1) < 0 ∧ (a1.toNatClampNeg + (if (a2 - a1) < ((nI (gL g11 a0)) - a1) then a2 - a1 else (nI (gL g11 a0)) - a1).toNatClampNeg ≤ gL g11 a0 ∧ (0 + (if (a2 - a1) < ((nI (gL g11 a0)) - a1) then a2 - a1 else (nI (gL g11 a0)) - a1).toNatClampNeg ≤ gL g11 (200 + gN g3) ∧ ((∀ i, i < (if (a2 - a1) < ((nI (gL g11 a0)) - a1) then a2 - a1 else (nI (gL g11 a0)) - a1).toNatClampNeg → fits .byte (.int (ι12 a0 (a1.toNatClampNeg + i))) = true) ∧ (∀ ι21, ι21 = va_up ι12 (200 + gN g3) (va_cpy (ι12 a0) (ι12 (200 + gN g3)) a1.toNatClampNeg 0 ((if (a2 - a1) < ((nI (gL g11 a0)) - a1) then a2 - a1 else (nI (gL g11 a0)) - a1).toNatClampNeg)) → (Q (200 + gN g3) g11 ι21))))))))))))))))
set_option maxHeartbeats 2000000 in
theorem we_J13_copyOfRangeByte (hnm : meth.name = "copyOfRangeByte") {BC BS : Nat} {Q : Nat → GT → S → Prop} : ∀ (a0 : Nat) (a1 : Int32) (a2 : Int32) (g : GT) (ι : S) (ad : Nat → Nat) (H : Heap) (locs : List Loc) (ls : Array Slot), P_J13_copyOfRangeByte BC BS a0 a1 a2 g ι Q → CX p s m args c meth cJ13_copyOfRangeByte 5 (some (.array .byte)) RJ13 D dA ad A → PW D dA A s.heap ad (HS g ι) H locs → HA ad0 g0 ad g → LH ad ls 5 [(0, pX a0), (1, iX a1), (2, iX a2)] → WHq p l e ({ frames := 1, cells := BC, slots := BS, locals := 60 } : Room) s m args below meth c D dA ad0 g0 A Q BC BS H locs (0) (0) (F0 m 0 ls []) := by
  intro a0 a1 a2 g ι ad H locs ls hF X hP hag hl
  unfold P_J13_copyOfRangeByte at hF
  refine ph_iload_n (n := 1) X hl dJ13_copyOfRangeByte_0 rfl rfl ?_
  refine ph_iload_n (n := 2) X hl dJ13_copyOfRangeByte_1 rfl rfl ?_
  obtain ⟨hx1, hF⟩ := hF
  obtain ⟨hd2, hF⟩ := hF
  refine hg_callSv [iX a1, iX a2] [] X hP (met_J13_checkLength l D dA ad _ _ _ _ _ hF) (va_cwS 2 X.2.2.2.2.1 (lw_S q422 q423 q113 q424) rfl rfl rfl (by decide +kernel) ⟨Nat.le_of_ble_eq_true rfl, Nat.le_of_ble_eq_true rfl⟩) rfl hag hl (ltlp hx1 (ltli (ltli ltln))) ltsn (k8 := 0) (cs0 (k := 0)) (by decide) hd2 dJ13_copyOfRangeByte_2 rfl (fun ad g3 ι4 H locs hF X hP hag he5 hl => ?_)
  show WHq p l e ({ frames := 1, cells := BC, slots := BS, locals := 60 } : Room) s m args below meth c D dA ad0 g0 A Q BC BS H locs (0) (0) (F0 m 5 ls [])
  refine ph_iload_n (n := 2) X hl dJ13_copyOfRangeByte_5 rfl rfl ?_
  refine ph_iload_n (n := 1) X hl dJ13_copyOfRangeByte_6 rfl rfl ?_
  refine lv_isub X.1 X.2.1 dJ13_copyOfRangeByte_7 ?_
  refine ph_istore_n X hl dJ13_copyOfRangeByte_8 rfl (by decide) rfl (fun ls hl => ?_)
  refine ph_iload_n (n := 0) X hl dJ13_copyOfRangeByte_9 rfl rfl ?_
  obtain ⟨hn8, hF⟩ := hF
  obtain ⟨hn9, hF⟩ := hF
  obtain ⟨hd10, hF⟩ := hF
  have hl : LH ad ls 5 [(3, iX (a2 - a1)), (0, pX a0), (1, iX a1)] := lh_sub hl [0, 1, 2] rfl
  refine hg_newaB [] X hP hag hl (ltli (ltlp (ltm hx1 he5) (ltli ltln))) ltsn q242 hn8 rfl hn9 hd10 dJ13_copyOfRangeByte_10 rfl hF (fun H ad g11 ι12 X hP hag he13 hk14 hl hF => ?_)
  show WHq p l e ({ frames := 1, cells := BC, slots := BS, locals := 60 } : Room) s m args below meth c D dA ad0 g0 A Q BC BS H locs (1) (0 + (a2 - a1).toNatClampNeg) (F0 m 12 ls [rv ad (200 + gN g3)])
  refine ph_astore X hl dJ13_copyOfRangeByte_12 (by decide) rfl (fun ls hl => ?_)
  refine ph_aload_n (n := 2) X hl dJ13_copyOfRangeByte_14 rfl rfl ?_
  refine ph_iload_n (n := 3) X hl dJ13_copyOfRangeByte_15 rfl rfl ?_
  refine ph_aload (n := 0) X hl dJ13_copyOfRangeByte_16 rfl ?_
  refine lv_iconst (v := 0) X.1 X.2.1 dJ13_copyOfRangeByte_18 (by decide) ?_
  refine ph_aload_n (n := 2) X hl dJ13_copyOfRangeByte_19 rfl rfl ?_
  obtain ⟨hm15, hF⟩ := hF
  refine cg_alenB X hP hm15 dJ13_copyOfRangeByte_20 ?_
  refine ph_iload_n (n := 3) X hl dJ13_copyOfRangeByte_21 rfl rfl ?_
  refine lv_isub X.1 X.2.1 dJ13_copyOfRangeByte_22 ?_
  refine ph_iload_n (n := 1) X hl dJ13_copyOfRangeByte_23 rfl rfl ?_
  refine va_mmin X.1 X.2.1 (X.2.2.1.trans hl.1.symm) X.2.2.2.1 (X.2.2.2.2.1 _ q284) (X.2.2.2.2.1 _ q285) (X.2.2.2.2.1 _ q112) (X.2.2.2.2.1 _ q286) (Nat.le_of_ble_eq_true rfl) (Nat.le_trans (Nat.add_le_add_right (csi (csr (csi (csr (cs0 (k := 0)))))) 13) (Nat.le_of_ble_eq_true rfl)) (hd10).1 (hd10).2 dJ13_copyOfRangeByte_24 ?_
  obtain ⟨hn16, hF⟩ := hF
  obtain ⟨hn17, hF⟩ := hF
  obtain ⟨hr18, hF⟩ := hF
  obtain ⟨hr19, hF⟩ := hF
  obtain ⟨hc20, hF⟩ := hF
  refine cg_copyb (a := a1.toNatClampNeg) (b := 0) (k := (if (a2 - a1) < ((nI (gL g11 a0)) - a1) then a2 - a1 else (nI (gL g11 a0)) - a1).toNatClampNeg) X hP hl q287 q289 q288 q114 hm15 hk14.1 hn16 (by decide) hn17 rfl (by decide) rfl hr18 hr19 hc20 (Nat.le_of_ble_eq_true rfl) (Nat.le_trans (Nat.add_le_add (cs0 (k := 0)) acw) (Nat.le_of_ble_eq_true rfl)) dJ13_copyOfRangeByte_27 hF (fun H locs ι21 hP hF => ?_)
  refine ph_aload (n := 0) X hl dJ13_copyOfRangeByte_30 rfl ?_
  exact hg_aret X hP hag (Or.inr ⟨_, rfl⟩) (ltw he13) hF hd10.1 hd10.2 dJ13_copyOfRangeByte_32
set_option maxHeartbeats 2000000 in
theorem met_J13_copyOfRangeByte (l : Launch) (D : va_G) (dA : Nat → ClassId) (ad : Nat → Nat) (BC BS : Nat) (g : GT) (ι : S) (sz : Nat) {a0 : Nat} {a1 : Int32} {a2 : Int32} {Q : Nat → GT → S → Prop} (hF : P_J13_copyOfRangeByte BC BS a0 a1 a2 g ι Q) : CHq l yJ13_copyOfRangeByte cJ13_copyOfRangeByte 5 (.array .byte) ({ frames := 1, cells := BC, slots := BS, locals := 60 } : Room) D dA ad g ι sz [pX a0, iX a1, iX a2] Q BC BS := by
  refine ph_enter [pX a0, iX a1, iX a2] (Qc := fun A => HPq D dA ad g A Q) (by decide +kernel) (Nat.le_of_ble_eq_true rfl) ?_
  intro p e s m args below meth c A ls X hP hl hnm
  have hnm : meth.name = "copyOfRangeByte" := hnm
  exact we_J13_copyOfRangeByte hnm _ _ _ _ _ _ _ _ _ hF X hP HA.rf hl
def P_J13_copyOfRange (BC BS : Nat) (a0 : Nat) (a1 : Int32) (a2 : Int32) (g : GT) (ι : S) (Q : Nat → GT → S → Prop) : Prop := ((¬ a1 = 0 → (∃ b1 d2, ((0 + b1 ≤ BC ∧ 0 + d2 ≤ BS) ∧ (P_J13_copyOfRangeByte b1 d2 a0 a1 a2 g ι (fun r7 g4 ι5 => (Q r7 g4 ι5)))))) ∧ (a1 = 0 → (gK g a0 = 101 ∧ ((a2 = (nI (gL g a0)) → ((∀ i, i < gL g a0 → fits .byte (.int (ι a0 i)) = true) ∧ ((1 ≤ BC ∧ 0 + gL g a0 ≤ BS) ∧ (∀ g12 ι13, g12 = newg g 101 (gL g a0) → ι13 = va_up ι (200 + gN g) (ι a0) → (Q (200 + gN g) g12 ι13))))) ∧ (¬ a2 = (nI (gL g a0)) → (∃ b16 d17, ((0 + b16 ≤ BC ∧ 0 + d17 ≤ BS) ∧ (P_J13_copyOfRangeByte b16 d17 a0 a1 a2 g ι (fun r22 g19 ι20 => (Q r22 g19 ι20))))))))))
set_option maxHeartbeats 2000000 in
theorem we_J13_copyOfRange (hnm : meth.name = "copyOfRange") {BC BS : Nat} {Q : Nat → GT → S → Prop} : ∀ (a0 : Nat) (a1 : Int32) (a2 : Int32) (g : GT) (ι : S) (ad : Nat → Nat) (H : Heap) (locs : List Loc) (ls : Array Slot), P_J13_copyOfRange BC BS a0 a1 a2 g ι Q → CX p s m args c meth cJ13_copyOfRange 3 (some (.array .byte)) RJ13 D dA ad A → PW D dA A s.heap ad (HS g ι) H locs → HA ad0 g0 ad g → LH ad ls 3 [(0, pX a0), (1, iX a1), (2, iX a2)] → WHq p l e ({ frames := 2, cells := BC, slots := BS, locals := 84 } : Room) s m args below meth c D dA ad0 g0 A Q BC BS H locs (0) (0) (F0 m 0 ls []) := by
  intro a0 a1 a2 g ι ad H locs ls hF X hP hag hl
  unfold P_J13_copyOfRange at hF
  refine ph_iload_n (n := 1) X hl dJ13_copyOfRange_0 rfl rfl ?_
  refine lv_if_ne (tgt := 10) X.1 X.2.1 dJ13_copyOfRange_1 (by decide) (fun c25 => ?_) (fun c25 => ?_)
  · have hF := hF.1 c25
    refine ph_aload_n (n := 0) X hl dJ13_copyOfRange_10 rfl rfl ?_
    refine ph_iload_n (n := 1) X hl dJ13_copyOfRange_11 rfl rfl ?_
    refine ph_iload_n (n := 2) X hl dJ13_copyOfRange_12 rfl rfl ?_
    obtain ⟨b1, d2, hF⟩ := hF
    obtain ⟨hd3, hF⟩ := hF
    have hl : LH ad ls 3 [] := lh_sub hl [] rfl
    refine hg_callSq [pX a0, iX a1, iX a2] [] X hP (met_J13_copyOfRangeByte l D dA ad _ _ _ _ _ hF) (va_cwS 3 X.2.2.2.2.1 (lw_S q419 q420 q113 q421) rfl rfl rfl (by decide +kernel) ⟨Nat.le_of_ble_eq_true rfl, Nat.le_of_ble_eq_true rfl⟩) rfl hag hl ltln ltsn (k8 := 0) (cs0 (k := 0)) (by decide) hd3 dJ13_copyOfRange_13 rfl (fun r7 ad g4 ι5 H locs hF hv8 X hP hag he6 hl => ?_)
    show WHq p l e ({ frames := 2, cells := BC, slots := BS, locals := 84 } : Room) s m args below meth c D dA ad0 g0 A Q BC BS H locs (0 + b1) (0 + d2) (F0 m 16 ls [rv ad r7])
    exact hg_aret X hP hag (Or.inr ⟨_, rfl⟩) hv8 hF hd3.1 hd3.2 dJ13_copyOfRange_16
  · have hF := hF.2 c25
    refine ph_iload_n (n := 2) X hl dJ13_copyOfRange_4 rfl rfl ?_
    refine ph_aload_n (n := 0) X hl dJ13_copyOfRange_5 rfl rfl ?_
    obtain ⟨hm9, hF⟩ := hF
    refine cg_alenB X hP hm9 dJ13_copyOfRange_6 ?_
    refine lv_icmp_eq (tgt := 17) X.1 X.2.1 dJ13_copyOfRange_7 (by decide) (fun c24 => ?_) (fun c24 => ?_)
    · have hF := hF.1 c24
      refine ph_aload_n (n := 0) X hl dJ13_copyOfRange_17 rfl rfl ?_
      obtain ⟨hc10, hF⟩ := hF
      obtain ⟨hd11, hF⟩ := hF
      have hl : LH ad ls 3 [] := lh_sub hl [] rfl
      refine hg_cloneB [] X hP hag hl ltln ltsn hm9 q277 q278 q279 q280 q281 q282 hc10 (k8 := 0) (cs0 (k := 0)) (by decide) ⟨Nat.le_of_ble_eq_true rfl, Nat.le_of_ble_eq_true rfl⟩ hd11 dJ13_copyOfRange_18 rfl hF (fun H ad g12 ι13 X hP hag he14 hk15 hl hF => ?_)
      show WHq p l e ({ frames := 2, cells := BC, slots := BS, locals := 84 } : Room) s m args below meth c D dA ad0 g0 A Q BC BS H locs (1) (0 + gL g a0) (F0 m 21 ls [rv ad (200 + gN g)])
      refine cg_castA101 X hP hk15.1 q283 dJ13_copyOfRange_21 ?_
      exact hg_aret X hP hag (Or.inr ⟨_, rfl⟩) (ltw he14) hF hd11.1 hd11.2 dJ13_copyOfRange_24
    · have hF := hF.2 c24
      refine ph_aload_n (n := 0) X hl dJ13_copyOfRange_10 rfl rfl ?_
      refine ph_iload_n (n := 1) X hl dJ13_copyOfRange_11 rfl rfl ?_
      refine ph_iload_n (n := 2) X hl dJ13_copyOfRange_12 rfl rfl ?_
      obtain ⟨b16, d17, hF⟩ := hF
      obtain ⟨hd18, hF⟩ := hF
      have hl : LH ad ls 3 [] := lh_sub hl [] rfl
      refine hg_callSq [pX a0, iX a1, iX a2] [] X hP (met_J13_copyOfRangeByte l D dA ad _ _ _ _ _ hF) (va_cwS 3 X.2.2.2.2.1 (lw_S q419 q420 q113 q421) rfl rfl rfl (by decide +kernel) ⟨Nat.le_of_ble_eq_true rfl, Nat.le_of_ble_eq_true rfl⟩) rfl hag hl ltln ltsn (k8 := 0) (cs0 (k := 0)) (by decide) hd18 dJ13_copyOfRange_13 rfl (fun r22 ad g19 ι20 H locs hF hv23 X hP hag he21 hl => ?_)
      show WHq p l e ({ frames := 2, cells := BC, slots := BS, locals := 84 } : Room) s m args below meth c D dA ad0 g0 A Q BC BS H locs (0 + b16) (0 + d17) (F0 m 16 ls [rv ad r22])
      exact hg_aret X hP hag (Or.inr ⟨_, rfl⟩) hv23 hF hd18.1 hd18.2 dJ13_copyOfRange_16
set_option maxHeartbeats 2000000 in
theorem met_J13_copyOfRange (l : Launch) (D : va_G) (dA : Nat → ClassId) (ad : Nat → Nat) (BC BS : Nat) (g : GT) (ι : S) (sz : Nat) {a0 : Nat} {a1 : Int32} {a2 : Int32} {Q : Nat → GT → S → Prop} (hF : P_J13_copyOfRange BC BS a0 a1 a2 g ι Q) : CHq l yJ13_copyOfRange cJ13_copyOfRange 3 (.array .byte) ({ frames := 2, cells := BC, slots := BS, locals := 84 } : Room) D dA ad g ι sz [pX a0, iX a1, iX a2] Q BC BS := by
  refine ph_enter [pX a0, iX a1, iX a2] (Qc := fun A => HPq D dA ad g A Q) (by decide +kernel) (Nat.le_of_ble_eq_true rfl) ?_
  intro p e s m args below meth c A ls X hP hl hnm
  have hnm : meth.name = "copyOfRange" := hnm
  exact we_J13_copyOfRange hnm _ _ _ _ _ _ _ _ _ hF X hP HA.rf hl
def P_J9_init_2 (BC BS : Nat) (a0 : Nat) (a1 : Nat) (a2 : Nat) (g : GT) (ι : S) (Q : GT → S → Prop) : Prop := (gK g a0 = 20 ∧ (a1 < 200 + gN g ∧ (a0 < 200 + gN g ∧ ((0 ≤ BC ∧ 0 ≤ BS) ∧ (gK g a1 = 19 ∧ (P_J7_getValue 0 0 a1 g ι (fun r8 g5 ι6 => ((0 ≤ BC ∧ 0 ≤ BS) ∧ (gK g5 a1 = 19 ∧ (P_J8_length 0 0 a1 g5 ι6 (fun r14 g11 ι12 => ((0 ≤ BC ∧ 0 ≤ BS) ∧ (gK g11 a1 = 19 ∧ (P_J7_isLatin1 0 0 a1 g11 ι12 (fun r20 g17 ι18 => (¬ r20 = 0 ∧ (gK g17 a0 = 20 ∧ (∀ ι25, ι25 = up2 ι18 a0 1 0 → (∃ b26 d27, ((0 + b26 ≤ BC ∧ 0 + d27 ≤ BS) ∧ (P_J13_copyOfRange b26 d27 r8 0 r14 g17 ι25 (fun r32 g29 ι30 => (gK g29 a0 = 20 ∧ (∀ g35, g35 = setg g29 a0 0 r32 → (Q g35 ι30)))))))))))))))))))))))))
set_option maxHeartbeats 2000000 in
theorem we_J9_init_2 (hnm : meth.name = "<init>") {BC BS : Nat} {Q : GT → S → Prop} : ∀ (a0 : Nat) (a1 : Nat) (a2 : Nat) (g : GT) (ι : S) (ad : Nat → Nat) (H : Heap) (locs : List Loc) (ls : Array Slot), P_J9_init_2 BC BS a0 a1 a2 g ι Q → CX p s m args c meth cJ9_init_2 5 none RJ9 D dA ad A → PW D dA A s.heap ad (HS g ι) H locs → HA ad0 g0 ad g → LH ad ls 5 [(0, pX a0), (1, pX a1), (2, pX a2)] → WHv p l e ({ frames := 3, cells := BC, slots := BS, locals := 106 } : Room) s m args below meth c D dA ad0 g0 A Q BC BS H locs (0) (0) (F0 m 0 ls []) := by
  intro a0 a1 a2 g ι ad H locs ls hF X hP hag hl
  unfold P_J9_init_2 at hF
  refine ph_aload_n (n := 0) X hl dJ9_init_2_0 rfl rfl ?_
  obtain ⟨hm1, hF⟩ := hF
  refine hg_obj X hl (cg_nz hP hm1 (by decide)) q401 q146 (k8 := 0) (cs0 (k := 0)) (by decide) ⟨Nat.le_of_ble_eq_true rfl, Nat.le_of_ble_eq_true rfl⟩ dJ9_init_2_1 ?_
  refine ph_aload_n (n := 1) X hl dJ9_init_2_4 rfl rfl ?_
  obtain ⟨hx2, hF⟩ := hF
  obtain ⟨hx3, hF⟩ := hF
  obtain ⟨hd4, hF⟩ := hF
  obtain ⟨hm39, hF⟩ := hF
  have hl : LH ad ls 5 [(0, pX a0), (1, pX a1)] := lh_sub hl [0, 1] rfl
  refine hg_callVq 18 [] [] X hP hm39 (met_J7_getValue l D dA ad _ _ _ _ _ hF) (cwVx 0 X.2.2.2.2.1 (lw_meth q406) rfl rfl rfl (X.2.2.2.2.1 _ q107) (X.2.2.2.2.1 _ q402) (X.2.2.2.2.1 _ q403) (va_tabs rfl rfl (X.2.2.2.2.1 _ q405)) (by decide +kernel) ⟨Nat.le_of_ble_eq_true rfl, Nat.le_of_ble_eq_true rfl⟩) rfl hag hl (ltlp hx3 (ltlp hx2 ltln)) ltsn (k8 := 0) (cs0 (k := 0)) (by decide) hd4 dJ9_init_2_5 rfl (fun r8 ad g5 ι6 H locs hF hv9 X hP hag he7 hl => ?_)
  show WHv p l e ({ frames := 3, cells := BC, slots := BS, locals := 106 } : Room) s m args below meth c D dA ad0 g0 A Q BC BS H locs (0) (0) (F0 m 8 ls [rv ad r8])
  refine ph_astore_n X hl dJ9_init_2_8 rfl (by decide) rfl (fun ls hl => ?_)
  refine ph_aload_n (n := 2) X hl dJ9_init_2_9 rfl rfl ?_
  obtain ⟨hd10, hF⟩ := hF
  obtain ⟨hm38, hF⟩ := hF
  refine hg_callUi 18 [] [] X hP hm38 (met_J8_length l D dA ad _ _ _ _ _ hF) (va_cwO (owner := "java/lang/AbstractStringBuilder") 0 X.2.2.2.2.1 (lw_O q407 q409 q408 q410 q411 q108 q412) rfl rfl rfl q414 (by decide +kernel) ⟨Nat.le_of_ble_eq_true rfl, Nat.le_of_ble_eq_true rfl⟩) rfl hag hl (ltlp hv9 (ltlp (ltm hx3 he7) (ltlp (ltm hx2 he7) ltln))) ltsn (k8 := 0) (cs0 (k := 0)) (by decide) hd10 dJ9_init_2_10 rfl (fun r14 ad g11 ι12 H locs hF X hP hag he13 hl => ?_)
  show WHv p l e ({ frames := 3, cells := BC, slots := BS, locals := 106 } : Room) s m args below meth c D dA ad0 g0 A Q BC BS H locs (0) (0) (F0 m 13 ls [.int r14])
  refine ph_istore X hl dJ9_init_2_13 (by decide) rfl (fun ls hl => ?_)
  refine ph_aload_n (n := 3) X hl dJ9_init_2_15 rfl rfl ?_
  obtain ⟨hd16, hF⟩ := hF
  obtain ⟨hm37, hF⟩ := hF
  refine hg_callVi 18 [] [] X hP hm37 (met_J7_isLatin1 l D dA ad _ _ _ _ _ hF) (cwVx 0 X.2.2.2.2.1 (lw_meth q294) rfl rfl rfl (X.2.2.2.2.1 _ q107) (X.2.2.2.2.1 _ q415) (X.2.2.2.2.1 _ q291) (va_tabs rfl rfl (X.2.2.2.2.1 _ q293)) (by decide +kernel) ⟨Nat.le_of_ble_eq_true rfl, Nat.le_of_ble_eq_true rfl⟩) rfl hag hl (ltli (ltlp (ltm hv9 he13) (ltlp (ltm (ltm hx3 he7) he13) (ltlp (ltm (ltm hx2 he7) he13) ltln)))) ltsn (k8 := 0) (cs0 (k := 0)) (by decide) hd16 dJ9_init_2_16 rfl (fun r20 ad g17 ι18 H locs hF X hP hag he19 hl => ?_)
  show WHv p l e ({ frames := 3, cells := BC, slots := BS, locals := 106 } : Room) s m args below meth c D dA ad0 g0 A Q BC BS H locs (0) (0) (F0 m 19 ls [.int r20])
  obtain ⟨hq23, hF⟩ := hF
  refine lv_if_eq (tgt := 41) X.1 X.2.1 dJ9_init_2_19 (by decide) (fun c22 => absurd c22 hq23) (fun c22 => ?_)
  refine ph_aload_n (n := 2) X hl dJ9_init_2_22 rfl rfl ?_
  refine lv_iconst (v := 0) X.1 X.2.1 dJ9_init_2_23 (by decide) ?_
  obtain ⟨hm24, hF⟩ := hF
  refine hg_putiF 19 1 X in_J9 tyJ9 tyJ9_ok nmJ9 hP hm24 q471 hnm dJ9_init_2_24 (by decide +kernel) (by decide +kernel) hF (fun H locs ι25 hP hF => ?_)
  refine ph_aload_n (n := 2) X hl dJ9_init_2_27 rfl rfl ?_
  refine ph_aload_n (n := 1) X hl dJ9_init_2_28 rfl rfl ?_
  refine lv_iconst (v := 0) X.1 X.2.1 dJ9_init_2_29 (by decide) ?_
  refine ph_iload (n := 0) X hl dJ9_init_2_30 rfl ?_
  obtain ⟨b26, d27, hF⟩ := hF
  obtain ⟨hd28, hF⟩ := hF
  have hl : LH ad ls 5 [] := lh_sub hl [] rfl
  refine hg_callSq [pX r8, iX 0, iX r14] [pX a0] X hP (met_J13_copyOfRange l D dA ad _ _ _ _ _ hF) (va_cwS 3 X.2.2.2.2.1 (lw_S q416 q417 q113 q418) rfl rfl rfl (by decide +kernel) ⟨Nat.le_of_ble_eq_true rfl, Nat.le_of_ble_eq_true rfl⟩) rfl hag hl ltln (ltsp (ltm (ltm (ltm hx3 he7) he13) he19) ltsn) (k8 := 1) (csr (cs0 (k := 0))) (by decide) hd28 dJ9_init_2_32 rfl (fun r32 ad g29 ι30 H locs hF hv33 X hP hag he31 hl => ?_)
  show WHv p l e ({ frames := 3, cells := BC, slots := BS, locals := 106 } : Room) s m args below meth c D dA ad0 g0 A Q BC BS H locs (0 + b26) (0 + d27) (F0 m 35 ls [rv ad r32, rv ad a0])
  obtain ⟨hm34, hF⟩ := hF
  refine hg_putrF 19 0 X in_J9 tyJ9 tyJ9_ok nmJ9 hP hm34 q470 hnm dJ9_init_2_35 hv33 hF (fun H locs g35 hP he36 hF => ?_) (Or.inr ⟨_, rfl⟩)
  have hag : HA ad0 g0 ad g35 := ⟨by rw [he36.1]; exact hag.1, hag.2⟩
  refine lv_goto (tgt := 97) X.1 X.2.1 dJ9_init_2_38 (by decide) ?_
  exact hg_vret X hP hag hF hd28.1 hd28.2 dJ9_init_2_97
set_option maxHeartbeats 2000000 in
theorem met_J9_init_2 (l : Launch) (D : va_G) (dA : Nat → ClassId) (ad : Nat → Nat) (BC BS : Nat) (g : GT) (ι : S) (sz : Nat) {a0 : Nat} {a1 : Nat} {a2 : Nat} {Q : GT → S → Prop} (hF : P_J9_init_2 BC BS a0 a1 a2 g ι Q) : CHv l yJ9_init_2 cJ9_init_2 5 ({ frames := 3, cells := BC, slots := BS, locals := 106 } : Room) D dA ad g ι sz [pX a0, pX a1, pX a2] Q BC BS := by
  refine ph_enter [pX a0, pX a1, pX a2] (Qc := fun A => HPv D dA ad g A Q) (by decide +kernel) (Nat.le_of_ble_eq_true rfl) ?_
  intro p e s m args below meth c A ls X hP hl hnm
  have hnm : meth.name = "<init>" := hnm
  exact we_J9_init_2 hnm _ _ _ _ _ _ _ _ _ hF X hP HA.rf hl
def P_J9_init (BC BS : Nat) (a0 : Nat) (a1 : Nat) (g : GT) (ι : S) (Q : GT → S → Prop) : Prop := (∃ b1 d2, ((0 + b1 ≤ BC ∧ 0 + d2 ≤ BS) ∧ (gK g a0 = 20 ∧ (P_J9_init_2 b1 d2 a0 a1 0 g ι (fun g4 ι5 => (Q g4 ι5))))))
set_option maxHeartbeats 2000000 in
theorem we_J9_init (hnm : meth.name = "<init>") {BC BS : Nat} {Q : GT → S → Prop} : ∀ (a0 : Nat) (a1 : Nat) (g : GT) (ι : S) (ad : Nat → Nat) (H : Heap) (locs : List Loc) (ls : Array Slot), P_J9_init BC BS a0 a1 g ι Q → CX p s m args c meth cJ9_init 2 none RJ9 D dA ad A → PW D dA A s.heap ad (HS g ι) H locs → HA ad0 g0 ad g → LH ad ls 2 [(0, pX a0), (1, pX a1)] → WHv p l e ({ frames := 4, cells := BC, slots := BS, locals := 130 } : Room) s m args below meth c D dA ad0 g0 A Q BC BS H locs (0) (0) (F0 m 0 ls []) := by
  intro a0 a1 g ι ad H locs ls hF X hP hag hl
  unfold P_J9_init at hF
  refine ph_aload_n (n := 0) X hl dJ9_init_0 rfl rfl ?_
  refine ph_aload_n (n := 1) X hl dJ9_init_1 rfl rfl ?_
  refine ph_null X dJ9_init_2 ?_
  obtain ⟨b1, d2, hF⟩ := hF
  obtain ⟨hd3, hF⟩ := hF
  obtain ⟨hm9, hF⟩ := hF
  have hl : LH ad ls 2 [] := lh_sub hl [] rfl
  refine hg_callI [pX a1, pX 0] [] X hP (cg_nz hP hm9 (by decide)) (met_J9_init_2 l D dA ad _ _ _ _ _ hF) (cwI 2 X.2.2.2.2.1 (lw_meth q400) rfl rfl rfl (X.2.2.2.2.1 _ q109) (X.2.2.2.2.1 _ q398) (X.2.2.2.2.1 _ q399) rfl (by decide +kernel) ⟨Nat.le_of_ble_eq_true rfl, Nat.le_of_ble_eq_true rfl⟩) rfl hag hl ltln ltsn (k8 := 0) (cs0 (k := 0)) (by decide) hd3 dJ9_init_3 rfl (fun ad g4 ι5 H locs hF X hP hag he6 hl => ?_)
  show WHv p l e ({ frames := 4, cells := BC, slots := BS, locals := 130 } : Room) s m args below meth c D dA ad0 g0 A Q BC BS H locs (0 + b1) (0 + d2) (F0 m 6 ls [])
  exact hg_vret X hP hag hF hd3.1 hd3.2 dJ9_init_6
set_option maxHeartbeats 2000000 in
theorem met_J9_init (l : Launch) (D : va_G) (dA : Nat → ClassId) (ad : Nat → Nat) (BC BS : Nat) (g : GT) (ι : S) (sz : Nat) {a0 : Nat} {a1 : Nat} {Q : GT → S → Prop} (hF : P_J9_init BC BS a0 a1 g ι Q) : CHv l yJ9_init cJ9_init 2 ({ frames := 4, cells := BC, slots := BS, locals := 130 } : Room) D dA ad g ι sz [pX a0, pX a1] Q BC BS := by
  refine ph_enter [pX a0, pX a1] (Qc := fun A => HPv D dA ad g A Q) (by decide +kernel) (Nat.le_of_ble_eq_true rfl) ?_
  intro p e s m args below meth c A ls X hP hl hnm
  have hnm : meth.name = "<init>" := hnm
  exact we_J9_init hnm _ _ _ _ _ _ _ _ hF X hP HA.rf hl
def P_J8_toString (BC BS : Nat) (a0 : Nat) (g : GT) (ι : S) (Q : Nat → GT → S → Prop) : Prop := (a0 < 200 + gN g ∧ ((1 ≤ BC ∧ 4 ≤ BS) ∧ (∀ g3 ι4, g3 = newg g 20 0 → ι4 = newi g ι → (∃ b7 d8, ((1 + b7 ≤ BC ∧ 4 + d8 ≤ BS) ∧ (P_J9_init b7 d8 (200 + gN g) a0 g3 ι4 (fun g10 ι11 => (Q (200 + gN g) g10 ι11))))))))
set_option maxHeartbeats 2000000 in
theorem we_J8_toString (hnm : meth.name = "toString") {BC BS : Nat} {Q : Nat → GT → S → Prop} : ∀ (a0 : Nat) (g : GT) (ι : S) (ad : Nat → Nat) (H : Heap) (locs : List Loc) (ls : Array Slot), P_J8_toString BC BS a0 g ι Q → CX p s m args c meth cJ8_toString 1 (some (.object "java/lang/String")) RJ8 D dA ad A → PW D dA A s.heap ad (HS g ι) H locs → HA ad0 g0 ad g → LH ad ls 1 [(0, pX a0)] → WHq p l e ({ frames := 5, cells := BC, slots := BS, locals := 151 } : Room) s m args below meth c D dA ad0 g0 A Q BC BS H locs (0) (0) (F0 m 0 ls []) := by
  intro a0 g ι ad H locs ls hF X hP hag hl
  unfold P_J8_toString at hF
  obtain ⟨hx1, hF⟩ := hF
  obtain ⟨hd2, hF⟩ := hF
  refine hg_new 19 [] X hP hag hl (ltlp hx1 ltln) ltsn in_J9 tyJ9 tyJ9_ok (by decide +kernel) q393 q394 q109 hd2 dJ8_toString_0 rfl hF (fun H ad g3 ι4 X hP hag he5 hk6 hl hF => ?_)
  show WHq p l e ({ frames := 5, cells := BC, slots := BS, locals := 151 } : Room) s m args below meth c D dA ad0 g0 A Q BC BS H locs (1) (4) (F0 m 3 ls [rv ad (200 + gN g)])
  refine ph_dup_r X dJ8_toString_3 ?_
  refine ph_aload_n (n := 0) X hl dJ8_toString_4 rfl rfl ?_
  obtain ⟨b7, d8, hF⟩ := hF
  obtain ⟨hd9, hF⟩ := hF
  have hl : LH ad ls 1 [] := lh_sub hl [] rfl
  refine hg_callI [pX a0] [pX (200 + gN g)] X hP (cg_nz hP hk6.1 (by decide)) (met_J9_init l D dA ad _ _ _ _ _ hF) (cwI 1 X.2.2.2.2.1 (lw_meth q397) rfl rfl rfl (X.2.2.2.2.1 _ q109) (X.2.2.2.2.1 _ q395) (X.2.2.2.2.1 _ q396) rfl (by decide +kernel) ⟨Nat.le_of_ble_eq_true rfl, Nat.le_of_ble_eq_true rfl⟩) rfl hag hl ltln (ltsp (ltw he5) ltsn) (k8 := 1) (csr (cs0 (k := 0))) (by decide) hd9 dJ8_toString_5 rfl (fun ad g10 ι11 H locs hF X hP hag he12 hl => ?_)
  show WHq p l e ({ frames := 5, cells := BC, slots := BS, locals := 151 } : Room) s m args below meth c D dA ad0 g0 A Q BC BS H locs (1 + b7) (4 + d8) (F0 m 8 ls [rv ad (200 + gN g)])
  exact hg_aret X hP hag (Or.inl ⟨_, rfl⟩) (ltm (ltw he5) he12) hF hd9.1 hd9.2 dJ8_toString_8
set_option maxHeartbeats 2000000 in
theorem met_J8_toString (l : Launch) (D : va_G) (dA : Nat → ClassId) (ad : Nat → Nat) (BC BS : Nat) (g : GT) (ι : S) (sz : Nat) {a0 : Nat} {Q : Nat → GT → S → Prop} (hF : P_J8_toString BC BS a0 g ι Q) : CHq l yJ8_toString cJ8_toString 1 (.object "java/lang/String") ({ frames := 5, cells := BC, slots := BS, locals := 151 } : Room) D dA ad g ι sz [pX a0] Q BC BS := by
  refine ph_enter [pX a0] (Qc := fun A => HPq D dA ad g A Q) (by decide +kernel) (Nat.le_of_ble_eq_true rfl) ?_
  intro p e s m args below meth c A ls X hP hl hnm
  have hnm : meth.name = "toString" := hnm
  exact we_J8_toString hnm _ _ _ _ _ _ _ hF X hP HA.rf hl
def P_J15_toBytes (BC BS : Nat) (a0 : Int32) (g : GT) (ι : S) (Q : Nat → GT → S → Prop) : Prop := ((1 ≤ BC ∧ 1 ≤ BS) ∧ (∀ g2 ι3, g2 = newg g 101 1 → ι3 = newi g ι → (vp_in 0 (gL g2 (200 + gN g)) ∧ (∀ ι6, ι6 = up2 ι3 (200 + gN g) 0 (vp_nar .byte a0.toInt8.toInt32) → (Q (200 + gN g) g2 ι6)))))
set_option maxHeartbeats 2000000 in
theorem we_J15_toBytes (hnm : meth.name = "toBytes") {BC BS : Nat} {Q : Nat → GT → S → Prop} : ∀ (a0 : Int32) (g : GT) (ι : S) (ad : Nat → Nat) (H : Heap) (locs : List Loc) (ls : Array Slot), P_J15_toBytes BC BS a0 g ι Q → CX p s m args c meth cJ15_toBytes 1 (some (.array .byte)) RJ15 D dA ad A → PW D dA A s.heap ad (HS g ι) H locs → HA ad0 g0 ad g → LH ad ls 1 [(0, iX a0)] → WHq p l e ({ frames := 0, cells := BC, slots := BS, locals := 0 } : Room) s m args below meth c D dA ad0 g0 A Q BC BS H locs (0) (0) (F0 m 0 ls []) := by
  intro a0 g ι ad H locs ls hF X hP hag hl
  unfold P_J15_toBytes at hF
  refine lv_iconst (v := 1) X.1 X.2.1 dJ15_toBytes_0 (by decide) ?_
  obtain ⟨hd1, hF⟩ := hF
  refine hg_newaB [] X hP hag hl (ltli ltln) ltsn q242 (by decide) (by decide) (Nat.le_of_ble_eq_true rfl) hd1 dJ15_toBytes_1 rfl hF (fun H ad g2 ι3 X hP hag he4 hk5 hl hF => ?_)
  show WHq p l e ({ frames := 0, cells := BC, slots := BS, locals := 0 } : Room) s m args below meth c D dA ad0 g0 A Q BC BS H locs (1) (1) (F0 m 3 ls [rv ad (200 + gN g)])
  refine ph_dup_r X dJ15_toBytes_3 ?_
  refine lv_iconst (v := 0) X.1 X.2.1 dJ15_toBytes_4 (by decide) ?_
  refine ph_iload_n (n := 0) X hl dJ15_toBytes_5 rfl rfl ?_
  refine lv_i2b X.1 X.2.1 dJ15_toBytes_6 rfl ?_
  obtain ⟨hr7, hF⟩ := hF
  refine cg_bast X hP hk5.1 hr7 (k := 0) (by decide) dJ15_toBytes_7 hF (fun H locs ι6 hP hF => ?_)
  exact hg_aret X hP hag (Or.inr ⟨_, rfl⟩) (ltw he4) hF hd1.1 hd1.2 dJ15_toBytes_8
set_option maxHeartbeats 2000000 in
theorem met_J15_toBytes (l : Launch) (D : va_G) (dA : Nat → ClassId) (ad : Nat → Nat) (BC BS : Nat) (g : GT) (ι : S) (sz : Nat) {a0 : Int32} {Q : Nat → GT → S → Prop} (hF : P_J15_toBytes BC BS a0 g ι Q) : CHq l yJ15_toBytes cJ15_toBytes 1 (.array .byte) ({ frames := 0, cells := BC, slots := BS, locals := 0 } : Room) D dA ad g ι sz [iX a0] Q BC BS := by
  refine ph_enter [iX a0] (Qc := fun A => HPq D dA ad g A Q) (by decide +kernel) (Nat.le_of_ble_eq_true rfl) ?_
  intro p e s m args below meth c A ls X hP hl hnm
  have hnm : meth.name = "toBytes" := hnm
  exact we_J15_toBytes hnm _ _ _ _ _ _ _ hF X hP HA.rf hl
def P_J9_init_3 (BC BS : Nat) (a0 : Nat) (a1 : Nat) (a2 : Int32) (g : GT) (ι : S) (Q : GT → S → Prop) : Prop := (gK g a0 = 20 ∧ (a1 < 200 + gN g ∧ (∀ g3, g3 = setg g a0 0 a1 → ((narrow .byte (.int a2) = .int a2 ∧ fits .byte (.int a2) = true) ∧ (∀ ι5, ι5 = up2 ι a0 1 a2 → (Q g3 ι5))))))
set_option maxHeartbeats 2000000 in
theorem we_J9_init_3 (hnm : meth.name = "<init>") {BC BS : Nat} {Q : GT → S → Prop} : ∀ (a0 : Nat) (a1 : Nat) (a2 : Int32) (g : GT) (ι : S) (ad : Nat → Nat) (H : Heap) (locs : List Loc) (ls : Array Slot), P_J9_init_3 BC BS a0 a1 a2 g ι Q → CX p s m args c meth cJ9_init_3 3 none RJ9 D dA ad A → PW D dA A s.heap ad (HS g ι) H locs → HA ad0 g0 ad g → LH ad ls 3 [(0, pX a0), (1, pX a1), (2, iX a2)] → WHv p l e ({ frames := 1, cells := BC, slots := BS, locals := 20 } : Room) s m args below meth c D dA ad0 g0 A Q BC BS H locs (0) (0) (F0 m 0 ls []) := by
  intro a0 a1 a2 g ι ad H locs ls hF X hP hag hl
  unfold P_J9_init_3 at hF
  refine ph_aload_n (n := 0) X hl dJ9_init_3_0 rfl rfl ?_
  obtain ⟨hm1, hF⟩ := hF
  refine hg_obj X hl (cg_nz hP hm1 (by decide)) q401 q146 (k8 := 0) (cs0 (k := 0)) (by decide) ⟨Nat.le_of_ble_eq_true rfl, Nat.le_of_ble_eq_true rfl⟩ dJ9_init_3_1 ?_
  refine ph_aload_n (n := 0) X hl dJ9_init_3_4 rfl rfl ?_
  refine ph_aload_n (n := 1) X hl dJ9_init_3_5 rfl rfl ?_
  obtain ⟨hx2, hF⟩ := hF
  refine hg_putrF 19 0 X in_J9 tyJ9 tyJ9_ok nmJ9 hP hm1 q470 hnm dJ9_init_3_6 hx2 hF (fun H locs g3 hP he4 hF => ?_) (Or.inr ⟨_, rfl⟩)
  have hag : HA ad0 g0 ad g3 := ⟨by rw [he4.1]; exact hag.1, hag.2⟩
  refine ph_aload_n (n := 0) X hl dJ9_init_3_9 rfl rfl ?_
  refine ph_iload_n (n := 2) X hl dJ9_init_3_10 rfl rfl ?_
  obtain ⟨hb6, hF⟩ := hF
  refine hg_putiF 19 1 X in_J9 tyJ9 tyJ9_ok nmJ9 hP (by rw [he4.2.1]; exact hm1) q471 hnm dJ9_init_3_11 hb6.1 hb6.2 hF (fun H locs ι5 hP hF => ?_)
  exact hg_vret X hP hag hF (Nat.zero_le _) (Nat.zero_le _) dJ9_init_3_14
set_option maxHeartbeats 2000000 in
theorem met_J9_init_3 (l : Launch) (D : va_G) (dA : Nat → ClassId) (ad : Nat → Nat) (BC BS : Nat) (g : GT) (ι : S) (sz : Nat) {a0 : Nat} {a1 : Nat} {a2 : Int32} {Q : GT → S → Prop} (hF : P_J9_init_3 BC BS a0 a1 a2 g ι Q) : CHv l yJ9_init_3 cJ9_init_3 3 ({ frames := 1, cells := BC, slots := BS, locals := 20 } : Room) D dA ad g ι sz [pX a0, pX a1, iX a2] Q BC BS := by
  refine ph_enter [pX a0, pX a1, iX a2] (Qc := fun A => HPv D dA ad g A Q) (by decide +kernel) (Nat.le_of_ble_eq_true rfl) ?_
  intro p e s m args below meth c A ls X hP hl hnm
  have hnm : meth.name = "<init>" := hnm
  exact we_J9_init_3 hnm _ _ _ _ _ _ _ _ _ hF X hP HA.rf hl
def P_J9_valueOf (BC BS : Nat) (a0 : Int32) (g : GT) (ι : S) (Q : Nat → GT → S → Prop) : Prop := (P_J15_canEncode g a0 ι (fun r1 ι2 => (¬ r1 = 0 ∧ ((1 ≤ BC ∧ 4 ≤ BS) ∧ (∀ g7 ι8, g7 = newg g 20 0 → ι8 = newi g ι2 → ((2 ≤ BC ∧ 5 ≤ BS) ∧ (P_J15_toBytes 1 1 a0 g7 ι8 (fun r15 g12 ι13 => ((2 ≤ BC ∧ 5 ≤ BS) ∧ (gK g12 (200 + gN g) = 20 ∧ (P_J9_init_3 0 0 (200 + gN g) r15 0 g12 ι13 (fun g18 ι19 => (Q (200 + gN g) g18 ι19)))))))))))))
set_option maxHeartbeats 2000000 in
theorem we_J9_valueOf (hnm : meth.name = "valueOf") {BC BS : Nat} {Q : Nat → GT → S → Prop} : ∀ (a0 : Int32) (g : GT) (ι : S) (ad : Nat → Nat) (H : Heap) (locs : List Loc) (ls : Array Slot), P_J9_valueOf BC BS a0 g ι Q → CX p s m args c meth cJ9_valueOf 1 (some (.object "java/lang/String")) RJ9 D dA ad A → PW D dA A s.heap ad (HS g ι) H locs → HA ad0 g0 ad g → LH ad ls 1 [(0, iX a0)] → WHq p l e ({ frames := 2, cells := BC, slots := BS, locals := 42 } : Room) s m args below meth c D dA ad0 g0 A Q BC BS H locs (0) (0) (F0 m 0 ls []) := by
  intro a0 g ι ad H locs ls hF X hP hag hl
  unfold P_J9_valueOf at hF
  refine cg_getsC X hP q329 dJ9_valueOf_0 ?_
  refine lv_if_eq (tgt := 26) X.1 X.2.1 dJ9_valueOf_3 (by decide) (fun c24 => absurd c24 (by decide)) (fun c24 => ?_)
  refine ph_iload_n (n := 0) X hl dJ9_valueOf_6 rfl rfl ?_
  refine cg_callSi [iX a0] X hP (met_J15_canEncode l D dA ad g _ _ hF) (va_cwS 1 X.2.2.2.2.1 (lw_S q1238 q1208 q116 q1209) rfl rfl rfl (by decide +kernel) ⟨Nat.le_of_ble_eq_true rfl, Nat.le_of_ble_eq_true rfl⟩) rfl hl (k8 := 0) (cs0 (k := 0)) (by decide) ⟨Nat.zero_le _, Nat.zero_le _⟩ dJ9_valueOf_7 rfl (fun r1 ι2 H locs hF hP => ?_)
  obtain ⟨hq5, hF⟩ := hF
  refine lv_if_eq (tgt := 26) X.1 X.2.1 dJ9_valueOf_10 (by decide) (fun c4 => absurd c4 hq5) (fun c4 => ?_)
  obtain ⟨hd6, hF⟩ := hF
  refine hg_new 19 [] X hP hag hl (ltli ltln) ltsn in_J9 tyJ9 tyJ9_ok (by decide +kernel) q1239 q394 q109 hd6 dJ9_valueOf_13 rfl hF (fun H ad g7 ι8 X hP hag he9 hk10 hl hF => ?_)
  show WHq p l e ({ frames := 2, cells := BC, slots := BS, locals := 42 } : Room) s m args below meth c D dA ad0 g0 A Q BC BS H locs (1) (4) (F0 m 16 ls [rv ad (200 + gN g)])
  refine ph_dup_r X dJ9_valueOf_16 ?_
  refine ph_iload_n (n := 0) X hl dJ9_valueOf_17 rfl rfl ?_
  obtain ⟨hd11, hF⟩ := hF
  have hl : LH ad ls 1 [] := lh_sub hl [] rfl
  refine hg_callSq [iX a0] [pX (200 + gN g), pX (200 + gN g)] X hP (met_J15_toBytes l D dA ad _ _ _ _ _ hF) (va_cwS 1 X.2.2.2.2.1 (lw_S q1240 q1241 q116 q1242) rfl rfl rfl (by decide +kernel) ⟨Nat.le_of_ble_eq_true rfl, Nat.le_of_ble_eq_true rfl⟩) rfl hag hl ltln (ltsp (ltw he9) (ltsp (ltw he9) ltsn)) (k8 := 2) (csr (csr (cs0 (k := 0)))) (by decide) hd11 dJ9_valueOf_18 rfl (fun r15 ad g12 ι13 H locs hF hv16 X hP hag he14 hl => ?_)
  show WHq p l e ({ frames := 2, cells := BC, slots := BS, locals := 42 } : Room) s m args below meth c D dA ad0 g0 A Q BC BS H locs (2) (5) (F0 m 21 ls [rv ad r15, rv ad (200 + gN g), rv ad (200 + gN g)])
  refine lv_iconst (v := 0) X.1 X.2.1 dJ9_valueOf_21 (by decide) ?_
  obtain ⟨hd17, hF⟩ := hF
  obtain ⟨hm23, hF⟩ := hF
  refine hg_callI [pX r15, iX 0] [pX (200 + gN g)] X hP (cg_nz hP hm23 (by decide)) (met_J9_init_3 l D dA ad _ _ _ _ _ hF) (cwI 2 X.2.2.2.2.1 (lw_meth q1245) rfl rfl rfl (X.2.2.2.2.1 _ q109) (X.2.2.2.2.1 _ q1243) (X.2.2.2.2.1 _ q1244) rfl (by decide +kernel) ⟨Nat.le_of_ble_eq_true rfl, Nat.le_of_ble_eq_true rfl⟩) rfl hag hl ltln (ltsp (ltm (ltw he9) he14) ltsn) (k8 := 1) (csr (cs0 (k := 0))) (by decide) hd17 dJ9_valueOf_22 rfl (fun ad g18 ι19 H locs hF X hP hag he20 hl => ?_)
  show WHq p l e ({ frames := 2, cells := BC, slots := BS, locals := 42 } : Room) s m args below meth c D dA ad0 g0 A Q BC BS H locs (2) (5) (F0 m 25 ls [rv ad (200 + gN g)])
  exact hg_aret X hP hag (Or.inl ⟨_, rfl⟩) (ltm (ltm (ltw he9) he14) he20) hF hd17.1 hd17.2 dJ9_valueOf_25
set_option maxHeartbeats 2000000 in
theorem met_J9_valueOf (l : Launch) (D : va_G) (dA : Nat → ClassId) (ad : Nat → Nat) (BC BS : Nat) (g : GT) (ι : S) (sz : Nat) {a0 : Int32} {Q : Nat → GT → S → Prop} (hF : P_J9_valueOf BC BS a0 g ι Q) : CHq l yJ9_valueOf cJ9_valueOf 1 (.object "java/lang/String") ({ frames := 2, cells := BC, slots := BS, locals := 42 } : Room) D dA ad g ι sz [iX a0] Q BC BS := by
  refine ph_enter [iX a0] (Qc := fun A => HPq D dA ad g A Q) (by decide +kernel) (Nat.le_of_ble_eq_true rfl) ?_
  intro p e s m args below meth c A ls X hP hl hnm
  have hnm : meth.name = "valueOf" := hnm
  exact we_J9_valueOf hnm _ _ _ _ _ _ _ hF X hP HA.rf hl
end HGA
