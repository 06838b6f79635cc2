set_option maxRecDepth 100000
/-- what the law's end asks of the law's caller -/
def LRet (p : Program) (l : Launch) (e : Env) (s : State) (m : MethodId) (args : Array Value) (below : List Frame) (meth : Method) (c : Code) (D : va_G) (dA : Nat → ClassId) (A : Nat → Prop) (L : Nat) (xs : Nat → Int32) (BC BS : Nat) (Q : Int32 → GT → S → Prop) (Zq : State → Prop) : Prop :=
  ∀ (v : Int32) (pc : Nat) (g : GT) (ι : S) (uc us : Nat) (ad : Nat → Nat) (H : Heap) (locs : List Loc) (ls : Array Slot), decode cL_law pc = .ok (.ireturn, 1) → Q v g ι → uc ≤ BC ∧ us ≤ BS → CX p s m args c meth cL_law 7 (some .boolean) RX0 D dA ad A → PW D dA A s.heap ad (HS g ι) H locs → W p l e ({ frames := 8192, cells := BC, slots := BS, locals := 100000 } : Room) s m args below meth c H locs uc us Zq (F0 m pc ls [.int v])
section LWC
variable {p : Program} {l : Launch} {e : Env} {R : Room} {s : State} {m : MethodId} {args : Array Value} {below : List Frame} {meth : Method} {c : Code} {H : Heap} {locs : List Loc} {cells slots : Nat} {Q : State → Prop}
variable {cc : ByteArray} {nL pc : Nat} {ret : Option FieldType} {ls : Array Slot} {D : va_G} {dA : Nat → ClassId} {ad : Nat → Nat} {A : Nat → Prop} {own : String} {lv : List (Nat × TV)}
variable {g g0 : GT} {ι : S} {st0 : List Value} {ad0 : Nat → Nat} {y : MethodName} {bytes : ByteArray} {maxL nA index b1 s1 : Nat} {rt : FieldType} {rm : Room} {Q1 : Int32 → GT → S → Prop}
theorem hl_callW {hh : List (Nat × Nat × Nat × Nat)} (as rs : List TV) (X : CX p s m args c meth cc nL ret own D dA ad A) (hP : PW D dA A s.heap ad (HS g ι) H locs) (hM : CZi l y bytes maxL rt hh rm D dA ad g ι H.size as Q1 (fun _ _ _ => False) b1 s1) (cw : vx_CSW R s args own index y bytes maxL (some rt) hh (wsW y bytes maxL (some rt) hh) rm b1 s1 nA) (hn : as.length = nA) (hA0 : HA ad0 g0 ad g) (hl : LH ad ls nL lv) (hlv : LTl (200 + gN g) lv) (hrs : LTs (200 + gN g) rs) {k8 : Nat} (hrest : ((rs.map (tv ad)).map fun v => v.category).sum ≤ k8) (h8 : k8 ≤ 8) (hroom : cells + b1 ≤ R.cells ∧ slots + s1 ≤ R.slots) (hdg : decode cc pc = .ok (.invokestatic index, 3)) (hst : st0 = (as.map (tv ad)).reverse ++ rs.map (tv ad))
    (kk : ∀ (r : Int32) (ad' : Nat → Nat) (g' : GT) (ι' : S) (H1 : Heap) (locs1 : List Loc), Q1 r g' ι' → CX p s m args c meth cc nL ret own D dA ad' A → PW D dA A s.heap ad' (HS g' ι') H1 locs1 → HA ad0 g0 ad' g' → gN g ≤ gN g' → LH ad' ls nL lv → W p l e R s m args below meth c H1 locs1 (cells + b1) (slots + s1) Q (F0 m (pc + 3) ls (.int r :: rs.map (tv ad')))) : W p l e R s m args below meth c H locs cells slots Q (F0 m pc ls st0) := by
  subst hst
  exact vx_calli (vx_runSX (As := as.map (tv ad)) (rest := rs.map (tv ad)) ⟨X.1, X.2.1, X.2.2.1, X.2.2.2.1, X.2.2.2.2.1⟩ hM cw ⟨cpc_blind, fun U hU hW => ph_start X hP as hU hW⟩ rfl (by rw [List.length_map]; exact hn) hl.1 rfl (lv_room (Nat.le_trans hrest h8)) hdg hroom) hP.2.2.1 (fun q _ hq => ph_free X hP q hq) (ph_free X hP) (fun q _ hq => ph_free X hP q hq) (fun E ce q9 u t H1 locs1 ht hvm hq hB hz hk1 hS hce hv hcl => by
      obtain ⟨g', ι', e1, hA', hx⟩ := hq
      exact hx.elim) (fun r u t H1 locs1 ht hvm hq hB hz hk1 hS => by
    obtain ⟨h9, ad9⟩ := u
    obtain ⟨g', ι', rfl, hA', hq⟩ := hq
    have h1 := hA'.2
    have h2 := kk r _ g' ι' H1 locs1 hq (cx_ad X (fun p hp => h1 p (by omega))) (h_after X hP hB ht hS) (hA0.tr hA') hA'.1 (lh_new hl hlv h1)
    rw [tvs_new hrs h1] at h2
    exact h2)
end LWC
section HGL
variable {p : Program} {l : Launch} {e : Env} {s : State} {m : MethodId} {args : Array Value} {below : List Frame} {meth : Method} {c : Code} {D : va_G} {dA : Nat → ClassId} {ad0 : Nat → Nat} {A : Nat → Prop} {g0 : GT}
def P_X0_law_180 (L : Nat) (xs : Nat → Int32) (BC BS : Nat) (Q : Int32 → GT → S → Prop) (k23 : Nat → Nat → Nat → Int32 → GT → S → Nat → Nat → Prop) (x1 : Nat) (x2 : Nat) (x3 : Nat) (x4 : Int32) (g : GT) (ι : S) (uc us : Nat) : Prop := (vp_in (x4 + 1) L ∧ (vp_in (x4 + 2) L ∧ (vp_in (x4 + 3) L ∧ (vp_in (x4 + 4) L ∧ (vp_in (x4 + 5) L ∧ ((uc ≤ BC ∧ us ≤ BS) ∧ (gK g x1 = 2 ∧ (P_X1_feed g x1 (xs ((x4 + 1).toNatClampNeg)) (xs ((x4 + 2).toNatClampNeg)) (xs ((x4 + 3).toNatClampNeg)) (xs ((x4 + 4).toNatClampNeg)) (xs ((x4 + 5).toNatClampNeg)) ι (fun r7 ι8 => (vp_in (x4 + 1) L ∧ (vp_in (x4 + 2) L ∧ (vp_in (x4 + 3) L ∧ (vp_in (x4 + 4) L ∧ (vp_in (x4 + 5) L ∧ (TG g x2 ∧ (P_X8_feed (xs ((x4 + 1).toNatClampNeg)) (xs ((x4 + 2).toNatClampNeg)) (xs ((x4 + 3).toNatClampNeg)) (xs ((x4 + 4).toNatClampNeg)) (xs ((x4 + 5).toNatClampNeg)) (subT ι8 x2) (fun r17 σ18 => ((r7 = r17 → (k23 x1 x2 x3 (x4 + 6) g (putT ι8 x2 σ18) (uc) (us))) ∧ (¬ r7 = r17 → (Q 0 g (putT ι8 x2 σ18)))))))))))))))))))))
def P_X0_law_306 (L : Nat) (xs : Nat → Int32) (BC BS : Nat) (Q : Int32 → GT → S → Prop) (k23 : Nat → Nat → Nat → Int32 → GT → S → Nat → Nat → Prop) (x1 : Nat) (x2 : Nat) (x3 : Nat) (x4 : Int32) (g : GT) (ι : S) (uc us : Nat) : Prop := (k23 x1 x2 x3 (x4 + 6) g ι (uc) (us))
def P_X0_law_253 (L : Nat) (xs : Nat → Int32) (BC BS : Nat) (Q : Int32 → GT → S → Prop) (k23 : Nat → Nat → Nat → Int32 → GT → S → Nat → Nat → Prop) (x1 : Nat) (x2 : Nat) (x3 : Nat) (x4 : Int32) (g : GT) (ι : S) (uc us : Nat) : Prop := (vp_in (x4 + 1) L ∧ (x3 < 200 + gN g ∧ (x2 < 200 + gN g ∧ (x1 < 200 + gN g ∧ (∃ b24 d25, ((uc + b24 ≤ BC ∧ us + d25 ≤ BS) ∧ (P_X0_bed b24 d25 x1 (xs ((x4 + 1).toNatClampNeg)) x3 g ι (fun r30 g27 ι28 => (vp_in (x4 + 1) L ∧ (TG g27 x2 ∧ (P_X8_bed (xs ((x4 + 1).toNatClampNeg)) (subT ι28 x2) (fun r33 σ34 => (TG g27 x2 ∧ (P_X8_thrown  (subT (putT ι28 x2 σ34) x2) (fun r36 σ37 => ((r36 = r30 → ((¬ r30 = 0 → (P_X0_law_306 L xs BC BS Q k23 x1 x2 x3 x4 g27 (putT (putT ι28 x2 σ34) x2 σ37) (uc + b24) (us + d25))) ∧ (r30 = 0 → (gK g27 x3 = 109 ∧ (vp_in 0 (gL g27 x3) ∧ (((lg_cmp (((putT (putT ι28 x2 σ34) x2 σ37) x3 0).toInt64) r33.toInt64) = 0 → (P_X0_law_306 L xs BC BS Q k23 x1 x2 x3 x4 g27 (putT (putT ι28 x2 σ34) x2 σ37) (uc + b24) (us + d25))) ∧ (¬ (lg_cmp (((putT (putT ι28 x2 σ34) x2 σ37) x3 0).toInt64) r33.toInt64) = 0 → (Q 0 g27 (putT (putT ι28 x2 σ34) x2 σ37))))))))) ∧ (¬ r36 = r30 → (Q 0 g27 (putT (putT ι28 x2 σ34) x2 σ37)))))))))))))))))))
def P_X0_law_309 (L : Nat) (xs : Nat → Int32) (BC BS : Nat) (Q : Int32 → GT → S → Prop) (k23 : Nat → Nat → Nat → Int32 → GT → S → Nat → Nat → Prop) (x1 : Nat) (x2 : Nat) (x3 : Nat) (x4 : Int32) (g : GT) (ι : S) (uc us : Nat) : Prop := ((uc ≤ BC ∧ us ≤ BS) ∧ (gK g x1 = 2 ∧ (P_X1_fault g x1 ι (fun r44 ι45 => (TG g x2 ∧ (P_X8_fault  (subT ι45 x2) (fun r49 σ50 => ((r44 = r49 → (k23 x1 x2 x3 (x4 + 6) g (putT ι45 x2 σ50) (uc) (us))) ∧ (¬ r44 = r49 → (Q 0 g (putT ι45 x2 σ50)))))))))))
def P_X0_law_375 (L : Nat) (xs : Nat → Int32) (BC BS : Nat) (Q : Int32 → GT → S → Prop) (k23 : Nat → Nat → Nat → Int32 → GT → S → Nat → Nat → Prop) (x1 : Nat) (x2 : Nat) (x3 : Nat) (x4 : Int32) (g : GT) (ι : S) (uc us : Nat) : Prop := (k23 x1 x2 x3 (x4 + 6) g ι (uc) (us))
def P_X0_law_322 (L : Nat) (xs : Nat → Int32) (BC BS : Nat) (Q : Int32 → GT → S → Prop) (k23 : Nat → Nat → Nat → Int32 → GT → S → Nat → Nat → Prop) (x1 : Nat) (x2 : Nat) (x3 : Nat) (x4 : Int32) (g : GT) (ι : S) (uc us : Nat) : Prop := (vp_in (x4 + 1) L ∧ (x3 < 200 + gN g ∧ (x2 < 200 + gN g ∧ (x1 < 200 + gN g ∧ ((uc + 1 ≤ BC ∧ us + 6 ≤ BS) ∧ (P_X0_count x1 (xs ((x4 + 1).toNatClampNeg)) x3 g ι (fun r60 g57 ι58 => (vp_in (x4 + 1) L ∧ (TG g57 x2 ∧ (P_X8_count (xs ((x4 + 1).toNatClampNeg)) (subT ι58 x2) (fun r63 σ64 => (TG g57 x2 ∧ (P_X8_thrown  (subT (putT ι58 x2 σ64) x2) (fun r66 σ67 => ((r66 = r60 → ((¬ r60 = 0 → (P_X0_law_375 L xs BC BS Q k23 x1 x2 x3 x4 g57 (putT (putT ι58 x2 σ64) x2 σ67) (uc + 1) (us + 6))) ∧ (r60 = 0 → (gK g57 x3 = 109 ∧ (vp_in 0 (gL g57 x3) ∧ (((lg_cmp (((putT (putT ι58 x2 σ64) x2 σ67) x3 0).toInt64) r63.toInt64) = 0 → (P_X0_law_375 L xs BC BS Q k23 x1 x2 x3 x4 g57 (putT (putT ι58 x2 σ64) x2 σ67) (uc + 1) (us + 6))) ∧ (¬ (lg_cmp (((putT (putT ι58 x2 σ64) x2 σ67) x3 0).toInt64) r63.toInt64) = 0 → (Q 0 g57 (putT (putT ι58 x2 σ64) x2 σ67))))))))) ∧ (¬ r66 = r60 → (Q 0 g57 (putT (putT ι58 x2 σ64) x2 σ67))))))))))))))))))
def P_X0_law_443 (L : Nat) (xs : Nat → Int32) (BC BS : Nat) (Q : Int32 → GT → S → Prop) (k23 : Nat → Nat → Nat → Int32 → GT → S → Nat → Nat → Prop) (x1 : Nat) (x2 : Nat) (x3 : Nat) (x4 : Int32) (g : GT) (ι : S) (uc us : Nat) : Prop := (k23 x1 x2 x3 (x4 + 6) g ι (uc) (us))
def P_X0_law_378 (L : Nat) (xs : Nat → Int32) (BC BS : Nat) (Q : Int32 → GT → S → Prop) (k23 : Nat → Nat → Nat → Int32 → GT → S → Nat → Nat → Prop) (x1 : Nat) (x2 : Nat) (x3 : Nat) (x4 : Int32) (g : GT) (ι : S) (uc us : Nat) : Prop := (vp_in (x4 + 1) L ∧ (vp_in (x4 + 2) L ∧ (x3 < 200 + gN g ∧ (x2 < 200 + gN g ∧ (x1 < 200 + gN g ∧ ((uc + 2 ≤ BC ∧ us + 12 ≤ BS) ∧ (P_X0_sleeper x1 (xs ((x4 + 1).toNatClampNeg)) (xs ((x4 + 2).toNatClampNeg)) x3 g ι (fun r82 g79 ι80 => (vp_in (x4 + 1) L ∧ (vp_in (x4 + 2) L ∧ (TG g79 x2 ∧ (P_X8_sleeper (xs ((x4 + 1).toNatClampNeg)) (xs ((x4 + 2).toNatClampNeg)) (subT ι80 x2) (fun r86 σ87 => (TG g79 x2 ∧ (P_X8_thrown  (subT (putT ι80 x2 σ87) x2) (fun r89 σ90 => ((r89 = r82 → ((¬ r82 = 0 → (P_X0_law_443 L xs BC BS Q k23 x1 x2 x3 x4 g79 (putT (putT ι80 x2 σ87) x2 σ90) (uc + 2) (us + 12))) ∧ (r82 = 0 → (gK g79 x3 = 109 ∧ (vp_in 0 (gL g79 x3) ∧ (((lg_cmp (((putT (putT ι80 x2 σ87) x2 σ90) x3 0).toInt64) r86.toInt64) = 0 → (P_X0_law_443 L xs BC BS Q k23 x1 x2 x3 x4 g79 (putT (putT ι80 x2 σ87) x2 σ90) (uc + 2) (us + 12))) ∧ (¬ (lg_cmp (((putT (putT ι80 x2 σ87) x2 σ90) x3 0).toInt64) r86.toInt64) = 0 → (Q 0 g79 (putT (putT ι80 x2 σ87) x2 σ90))))))))) ∧ (¬ r89 = r82 → (Q 0 g79 (putT (putT ι80 x2 σ87) x2 σ90))))))))))))))))))))
def P_X0_law_446 (L : Nat) (xs : Nat → Int32) (BC BS : Nat) (Q : Int32 → GT → S → Prop) (k23 : Nat → Nat → Nat → Int32 → GT → S → Nat → Nat → Prop) (x1 : Nat) (x2 : Nat) (x3 : Nat) (x4 : Int32) (g : GT) (ι : S) (uc us : Nat) : Prop := (vp_in (x4 + 1) L ∧ (vp_in (x4 + 2) L ∧ (x3 < 200 + gN g ∧ (x2 < 200 + gN g ∧ (x1 < 200 + gN g ∧ (∃ b101 d102, ((uc + b101 ≤ BC ∧ us + d102 ≤ BS) ∧ (gK g x1 = 2 ∧ (P_X1_swap b101 d102 x1 (xs ((x4 + 1).toNatClampNeg)) (xs ((x4 + 2).toNatClampNeg)) g ι (fun r107 g104 ι105 => (vp_in (x4 + 1) L ∧ (vp_in (x4 + 2) L ∧ (TG g104 x2 ∧ (P_X8_swap (xs ((x4 + 1).toNatClampNeg)) (xs ((x4 + 2).toNatClampNeg)) (subT ι105 x2) (fun r112 σ113 => ((r107 = r112 → (k23 x1 x2 x3 (x4 + 6) g104 (putT ι105 x2 σ113) (uc + b101) (us + d102))) ∧ (¬ r107 = r112 → (Q 0 g104 (putT ι105 x2 σ113)))))))))))))))))))
def P_X0_law_483 (L : Nat) (xs : Nat → Int32) (BC BS : Nat) (Q : Int32 → GT → S → Prop) (k23 : Nat → Nat → Nat → Int32 → GT → S → Nat → Nat → Prop) (x1 : Nat) (x2 : Nat) (x3 : Nat) (x4 : Int32) (g : GT) (ι : S) (uc us : Nat) : Prop := (vp_in (x4 + 1) L ∧ (x3 < 200 + gN g ∧ (x2 < 200 + gN g ∧ (x1 < 200 + gN g ∧ (∃ b120 d121, ((uc + b120 ≤ BC ∧ us + d121 ≤ BS) ∧ (gK g x1 = 2 ∧ (P_X1_side b120 d121 x1 (xs ((x4 + 1).toNatClampNeg)) g ι (fun r126 g123 ι124 => (vp_in (x4 + 1) L ∧ (TG g123 x2 ∧ (P_X8_side (xs ((x4 + 1).toNatClampNeg)) (subT ι124 x2) (fun r130 σ131 => ((r126 = r130 → (k23 x1 x2 x3 (x4 + 6) g123 (putT ι124 x2 σ131) (uc + b120) (us + d121))) ∧ (¬ r126 = r130 → (Q 0 g123 (putT ι124 x2 σ131)))))))))))))))))
def P_X0_law_573 (L : Nat) (xs : Nat → Int32) (BC BS : Nat) (Q : Int32 → GT → S → Prop) (k23 : Nat → Nat → Nat → Int32 → GT → S → Nat → Nat → Prop) (x1 : Nat) (x2 : Nat) (x3 : Nat) (x4 : Int32) (g : GT) (ι : S) (uc us : Nat) : Prop := (k23 x1 x2 x3 (x4 + 6) g ι (uc) (us))
def P_X0_law_508 (L : Nat) (xs : Nat → Int32) (BC BS : Nat) (Q : Int32 → GT → S → Prop) (k23 : Nat → Nat → Nat → Int32 → GT → S → Nat → Nat → Prop) (x1 : Nat) (x2 : Nat) (x3 : Nat) (x4 : Int32) (g : GT) (ι : S) (uc us : Nat) : Prop := (vp_in (x4 + 1) L ∧ (vp_in (x4 + 2) L ∧ (x3 < 200 + gN g ∧ (x2 < 200 + gN g ∧ (x1 < 200 + gN g ∧ (∃ b139 d140, ((uc + b139 ≤ BC ∧ us + d140 ≤ BS) ∧ (P_X0_word b139 d140 x1 (xs ((x4 + 1).toNatClampNeg)) (xs ((x4 + 2).toNatClampNeg)) x3 g ι (fun r145 g142 ι143 => (vp_in (x4 + 1) L ∧ (vp_in (x4 + 2) L ∧ (TG g142 x2 ∧ (P_X8_word (xs ((x4 + 1).toNatClampNeg)) (xs ((x4 + 2).toNatClampNeg)) (subT ι143 x2) (fun r149 σ150 => (TG g142 x2 ∧ (P_X8_thrown  (subT (putT ι143 x2 σ150) x2) (fun r152 σ153 => ((r152 = r145 → ((¬ r145 = 0 → (P_X0_law_573 L xs BC BS Q k23 x1 x2 x3 x4 g142 (putT (putT ι143 x2 σ150) x2 σ153) (uc + b139) (us + d140))) ∧ (r145 = 0 → (gK g142 x3 = 109 ∧ (vp_in 0 (gL g142 x3) ∧ (((lg_cmp (((putT (putT ι143 x2 σ150) x2 σ153) x3 0).toInt64) r149.toInt64) = 0 → (P_X0_law_573 L xs BC BS Q k23 x1 x2 x3 x4 g142 (putT (putT ι143 x2 σ150) x2 σ153) (uc + b139) (us + d140))) ∧ (¬ (lg_cmp (((putT (putT ι143 x2 σ150) x2 σ153) x3 0).toInt64) r149.toInt64) = 0 → (Q 0 g142 (putT (putT ι143 x2 σ150) x2 σ153))))))))) ∧ (¬ r152 = r145 → (Q 0 g142 (putT (putT ι143 x2 σ150) x2 σ153)))))))))))))))))))))
def P_X0_law_621 (L : Nat) (xs : Nat → Int32) (BC BS : Nat) (Q : Int32 → GT → S → Prop) (k23 : Nat → Nat → Nat → Int32 → GT → S → Nat → Nat → Prop) (y0 : Int32) (y1 : Nat) (y2 : Int32) (y3 : Int32) (x1 : Nat) (x2 : Nat) (x3 : Nat) (x4 : Int32) (g : GT) (ι : S) (uc us : Nat) : Prop := ((uc ≤ BC ∧ us ≤ BS) ∧ (TG g y1 ∧ (P_X8_bolster y2 y3 (subT ι y1) (fun r161 σ162 => ((y0 = r161 → (k23 x1 x2 x3 (x4 + 6) g (putT ι y1 σ162) (uc) (us))) ∧ (¬ y0 = r161 → (Q 0 g (putT ι y1 σ162))))))))
def P_X0_law_597 (L : Nat) (xs : Nat → Int32) (BC BS : Nat) (Q : Int32 → GT → S → Prop) (k23 : Nat → Nat → Nat → Int32 → GT → S → Nat → Nat → Prop) (y0 : Nat) (y1 : Int32) (y2 : Int32) (x1 : Nat) (x2 : Nat) (x3 : Nat) (x4 : Int32) (g : GT) (ι : S) (uc us : Nat) : Prop := (x3 < 200 + gN g ∧ (x2 < 200 + gN g ∧ (x1 < 200 + gN g ∧ (∃ b167 d168, ((uc + b167 ≤ BC ∧ us + d168 ≤ BS) ∧ (gK g y0 = 2 ∧ (P_X1_bolster b167 d168 y0 y1 y2 g ι (fun r173 g170 ι171 => (vp_in (x4 + 1) L ∧ (vp_in (x4 + 2) L ∧ (((xs ((x4 + 2).toNatClampNeg)) = 0 → (P_X0_law_621 L xs BC BS Q k23 r173 x2 (xs ((x4 + 1).toNatClampNeg)) 0 x1 x2 x3 x4 g170 ι171 (uc + b167) (us + d168))) ∧ (¬ (xs ((x4 + 2).toNatClampNeg)) = 0 → (P_X0_law_621 L xs BC BS Q k23 r173 x2 (xs ((x4 + 1).toNatClampNeg)) 1 x1 x2 x3 x4 g170 ι171 (uc + b167) (us + d168))))))))))))))
def P_X0_law_576 (L : Nat) (xs : Nat → Int32) (BC BS : Nat) (Q : Int32 → GT → S → Prop) (k23 : Nat → Nat → Nat → Int32 → GT → S → Nat → Nat → Prop) (x1 : Nat) (x2 : Nat) (x3 : Nat) (x4 : Int32) (g : GT) (ι : S) (uc us : Nat) : Prop := (vp_in (x4 + 1) L ∧ (vp_in (x4 + 2) L ∧ (((xs ((x4 + 2).toNatClampNeg)) = 0 → (P_X0_law_597 L xs BC BS Q k23 x1 (xs ((x4 + 1).toNatClampNeg)) 0 x1 x2 x3 x4 g ι (uc) (us))) ∧ (¬ (xs ((x4 + 2).toNatClampNeg)) = 0 → (P_X0_law_597 L xs BC BS Q k23 x1 (xs ((x4 + 1).toNatClampNeg)) 1 x1 x2 x3 x4 g ι (uc) (us))))))
def P_X0_law_694 (L : Nat) (xs : Nat → Int32) (BC BS : Nat) (Q : Int32 → GT → S → Prop) (k23 : Nat → Nat → Nat → Int32 → GT → S → Nat → Nat → Prop) (x1 : Nat) (x2 : Nat) (x3 : Nat) (x4 : Int32) (g : GT) (ι : S) (uc us : Nat) : Prop := (k23 x1 x2 x3 (x4 + 6) g ι (uc) (us))
def P_X0_law_629 (L : Nat) (xs : Nat → Int32) (BC BS : Nat) (Q : Int32 → GT → S → Prop) (k23 : Nat → Nat → Nat → Int32 → GT → S → Nat → Nat → Prop) (x1 : Nat) (x2 : Nat) (x3 : Nat) (x4 : Int32) (g : GT) (ι : S) (uc us : Nat) : Prop := (vp_in (x4 + 1) L ∧ (vp_in (x4 + 2) L ∧ (x3 < 200 + gN g ∧ (x2 < 200 + gN g ∧ (x1 < 200 + gN g ∧ (∃ b187 d188, ((uc + b187 ≤ BC ∧ us + d188 ≤ BS) ∧ (P_X0_out b187 d188 x1 (xs ((x4 + 1).toNatClampNeg)) (xs ((x4 + 2).toNatClampNeg)) x3 g ι (fun r193 g190 ι191 => (vp_in (x4 + 1) L ∧ (vp_in (x4 + 2) L ∧ (TG g190 x2 ∧ (P_X8_out (xs ((x4 + 1).toNatClampNeg)) (xs ((x4 + 2).toNatClampNeg)) (subT ι191 x2) (fun r197 σ198 => (TG g190 x2 ∧ (P_X8_thrown  (subT (putT ι191 x2 σ198) x2) (fun r200 σ201 => ((r200 = r193 → ((¬ r193 = 0 → (P_X0_law_694 L xs BC BS Q k23 x1 x2 x3 x4 g190 (putT (putT ι191 x2 σ198) x2 σ201) (uc + b187) (us + d188))) ∧ (r193 = 0 → (gK g190 x3 = 109 ∧ (vp_in 0 (gL g190 x3) ∧ (((lg_cmp (((putT (putT ι191 x2 σ198) x2 σ201) x3 0).toInt64) r197.toInt64) = 0 → (P_X0_law_694 L xs BC BS Q k23 x1 x2 x3 x4 g190 (putT (putT ι191 x2 σ198) x2 σ201) (uc + b187) (us + d188))) ∧ (¬ (lg_cmp (((putT (putT ι191 x2 σ198) x2 σ201) x3 0).toInt64) r197.toInt64) = 0 → (Q 0 g190 (putT (putT ι191 x2 σ198) x2 σ201))))))))) ∧ (¬ r200 = r193 → (Q 0 g190 (putT (putT ι191 x2 σ198) x2 σ201)))))))))))))))))))))
def P_X0_law_697 (L : Nat) (xs : Nat → Int32) (BC BS : Nat) (Q : Int32 → GT → S → Prop) (k23 : Nat → Nat → Nat → Int32 → GT → S → Nat → Nat → Prop) (x1 : Nat) (x2 : Nat) (x3 : Nat) (x4 : Int32) (g : GT) (ι : S) (uc us : Nat) : Prop := ((uc ≤ BC ∧ us ≤ BS) ∧ (gK g x1 = 2 ∧ (P_X1_undo g x1 ι (fun r208 ι209 => (TG g x2 ∧ (P_X8_undo  (subT ι209 x2) (fun r213 σ214 => ((r208 = r213 → (k23 x1 x2 x3 (x4 + 6) g (putT ι209 x2 σ214) (uc) (us))) ∧ (¬ r208 = r213 → (Q 0 g (putT ι209 x2 σ214)))))))))))
def P_X0_law_763 (L : Nat) (xs : Nat → Int32) (BC BS : Nat) (Q : Int32 → GT → S → Prop) (k23 : Nat → Nat → Nat → Int32 → GT → S → Nat → Nat → Prop) (x1 : Nat) (x2 : Nat) (x3 : Nat) (x4 : Int32) (g : GT) (ι : S) (uc us : Nat) : Prop := (k23 x1 x2 x3 (x4 + 6) g ι (uc) (us))
def P_X0_law_710 (L : Nat) (xs : Nat → Int32) (BC BS : Nat) (Q : Int32 → GT → S → Prop) (k23 : Nat → Nat → Nat → Int32 → GT → S → Nat → Nat → Prop) (x1 : Nat) (x2 : Nat) (x3 : Nat) (x4 : Int32) (g : GT) (ι : S) (uc us : Nat) : Prop := (vp_in (x4 + 1) L ∧ (x3 < 200 + gN g ∧ (x2 < 200 + gN g ∧ (x1 < 200 + gN g ∧ ((uc + 1 ≤ BC ∧ us + 6 ≤ BS) ∧ (P_X0_night x1 (xs ((x4 + 1).toNatClampNeg)) x3 g ι (fun r224 g221 ι222 => (vp_in (x4 + 1) L ∧ (TG g221 x2 ∧ (P_X8_night (xs ((x4 + 1).toNatClampNeg)) (subT ι222 x2) (fun r227 σ228 => (TG g221 x2 ∧ (P_X8_thrown  (subT (putT ι222 x2 σ228) x2) (fun r230 σ231 => ((r230 = r224 → ((¬ r224 = 0 → (P_X0_law_763 L xs BC BS Q k23 x1 x2 x3 x4 g221 (putT (putT ι222 x2 σ228) x2 σ231) (uc + 1) (us + 6))) ∧ (r224 = 0 → (gK g221 x3 = 109 ∧ (vp_in 0 (gL g221 x3) ∧ (((lg_cmp (((putT (putT ι222 x2 σ228) x2 σ231) x3 0).toInt64) r227.toInt64) = 0 → (P_X0_law_763 L xs BC BS Q k23 x1 x2 x3 x4 g221 (putT (putT ι222 x2 σ228) x2 σ231) (uc + 1) (us + 6))) ∧ (¬ (lg_cmp (((putT (putT ι222 x2 σ228) x2 σ231) x3 0).toInt64) r227.toInt64) = 0 → (Q 0 g221 (putT (putT ι222 x2 σ228) x2 σ231))))))))) ∧ (¬ r230 = r224 → (Q 0 g221 (putT (putT ι222 x2 σ228) x2 σ231))))))))))))))))))
def P_X0_law_831 (L : Nat) (xs : Nat → Int32) (BC BS : Nat) (Q : Int32 → GT → S → Prop) (k23 : Nat → Nat → Nat → Int32 → GT → S → Nat → Nat → Prop) (x1 : Nat) (x2 : Nat) (x3 : Nat) (x4 : Int32) (g : GT) (ι : S) (uc us : Nat) : Prop := (k23 x1 x2 x3 (x4 + 6) g ι (uc) (us))
def P_X0_law_766 (L : Nat) (xs : Nat → Int32) (BC BS : Nat) (Q : Int32 → GT → S → Prop) (k23 : Nat → Nat → Nat → Int32 → GT → S → Nat → Nat → Prop) (x1 : Nat) (x2 : Nat) (x3 : Nat) (x4 : Int32) (g : GT) (ι : S) (uc us : Nat) : Prop := (vp_in (x4 + 1) L ∧ (vp_in (x4 + 2) L ∧ (x3 < 200 + gN g ∧ (x2 < 200 + gN g ∧ (x1 < 200 + gN g ∧ ((uc + 2 ≤ BC ∧ us + 12 ≤ BS) ∧ (P_X0_woken x1 (xs ((x4 + 1).toNatClampNeg)) (xs ((x4 + 2).toNatClampNeg)) x3 g ι (fun r246 g243 ι244 => (vp_in (x4 + 1) L ∧ (vp_in (x4 + 2) L ∧ (TG g243 x2 ∧ (P_X8_woken (xs ((x4 + 1).toNatClampNeg)) (xs ((x4 + 2).toNatClampNeg)) (subT ι244 x2) (fun r250 σ251 => (TG g243 x2 ∧ (P_X8_thrown  (subT (putT ι244 x2 σ251) x2) (fun r253 σ254 => ((r253 = r246 → ((¬ r246 = 0 → (P_X0_law_831 L xs BC BS Q k23 x1 x2 x3 x4 g243 (putT (putT ι244 x2 σ251) x2 σ254) (uc + 2) (us + 12))) ∧ (r246 = 0 → (gK g243 x3 = 109 ∧ (vp_in 0 (gL g243 x3) ∧ (((lg_cmp (((putT (putT ι244 x2 σ251) x2 σ254) x3 0).toInt64) r250.toInt64) = 0 → (P_X0_law_831 L xs BC BS Q k23 x1 x2 x3 x4 g243 (putT (putT ι244 x2 σ251) x2 σ254) (uc + 2) (us + 12))) ∧ (¬ (lg_cmp (((putT (putT ι244 x2 σ251) x2 σ254) x3 0).toInt64) r250.toInt64) = 0 → (Q 0 g243 (putT (putT ι244 x2 σ251) x2 σ254))))))))) ∧ (¬ r253 = r246 → (Q 0 g243 (putT (putT ι244 x2 σ251) x2 σ254))))))))))))))))))))
def P_X0_law_911 (L : Nat) (xs : Nat → Int32) (BC BS : Nat) (Q : Int32 → GT → S → Prop) (k23 : Nat → Nat → Nat → Int32 → GT → S → Nat → Nat → Prop) (x1 : Nat) (x2 : Nat) (x3 : Nat) (x4 : Int32) (g : GT) (ι : S) (uc us : Nat) : Prop := (k23 x1 x2 x3 (x4 + 6) g ι (uc) (us))
def P_X0_law_834 (L : Nat) (xs : Nat → Int32) (BC BS : Nat) (Q : Int32 → GT → S → Prop) (k23 : Nat → Nat → Nat → Int32 → GT → S → Nat → Nat → Prop) (x1 : Nat) (x2 : Nat) (x3 : Nat) (x4 : Int32) (g : GT) (ι : S) (uc us : Nat) : Prop := (vp_in (x4 + 1) L ∧ (vp_in (x4 + 2) L ∧ (vp_in (x4 + 3) L ∧ (x3 < 200 + gN g ∧ (x2 < 200 + gN g ∧ (x1 < 200 + gN g ∧ ((uc + 3 ≤ BC ∧ us + 18 ≤ BS) ∧ (P_X0_lies x1 (xs ((x4 + 1).toNatClampNeg)) (xs ((x4 + 2).toNatClampNeg)) (xs ((x4 + 3).toNatClampNeg)) x3 g ι (fun r270 g267 ι268 => (vp_in (x4 + 1) L ∧ (vp_in (x4 + 2) L ∧ (vp_in (x4 + 3) L ∧ (TG g267 x2 ∧ (P_X8_lies (xs ((x4 + 1).toNatClampNeg)) (xs ((x4 + 2).toNatClampNeg)) (xs ((x4 + 3).toNatClampNeg)) (subT ι268 x2) (fun r275 σ276 => (TG g267 x2 ∧ (P_X8_thrown  (subT (putT ι268 x2 σ276) x2) (fun r278 σ279 => ((r278 = r270 → ((¬ r270 = 0 → (P_X0_law_911 L xs BC BS Q k23 x1 x2 x3 x4 g267 (putT (putT ι268 x2 σ276) x2 σ279) (uc + 3) (us + 18))) ∧ (r270 = 0 → (gK g267 x3 = 109 ∧ (vp_in 0 (gL g267 x3) ∧ (((lg_cmp (((putT (putT ι268 x2 σ276) x2 σ279) x3 0).toInt64) r275.toInt64) = 0 → (P_X0_law_911 L xs BC BS Q k23 x1 x2 x3 x4 g267 (putT (putT ι268 x2 σ276) x2 σ279) (uc + 3) (us + 18))) ∧ (¬ (lg_cmp (((putT (putT ι268 x2 σ276) x2 σ279) x3 0).toInt64) r275.toInt64) = 0 → (Q 0 g267 (putT (putT ι268 x2 σ276) x2 σ279))))))))) ∧ (¬ r278 = r270 → (Q 0 g267 (putT (putT ι268 x2 σ276) x2 σ279))))))))))))))))))))))
def P_X0_law_979 (L : Nat) (xs : Nat → Int32) (BC BS : Nat) (Q : Int32 → GT → S → Prop) (k23 : Nat → Nat → Nat → Int32 → GT → S → Nat → Nat → Prop) (x1 : Nat) (x2 : Nat) (x3 : Nat) (x4 : Int32) (g : GT) (ι : S) (uc us : Nat) : Prop := (k23 x1 x2 x3 (x4 + 6) g ι (uc) (us))
def P_X0_law_914 (L : Nat) (xs : Nat → Int32) (BC BS : Nat) (Q : Int32 → GT → S → Prop) (k23 : Nat → Nat → Nat → Int32 → GT → S → Nat → Nat → Prop) (x1 : Nat) (x2 : Nat) (x3 : Nat) (x4 : Int32) (g : GT) (ι : S) (uc us : Nat) : Prop := (vp_in (x4 + 1) L ∧ (vp_in (x4 + 2) L ∧ (x3 < 200 + gN g ∧ (x2 < 200 + gN g ∧ (x1 < 200 + gN g ∧ ((uc + 2 ≤ BC ∧ us + 12 ≤ BS) ∧ (P_X0_turn x1 (xs ((x4 + 1).toNatClampNeg)) (xs ((x4 + 2).toNatClampNeg)) x3 g ι (fun r294 g291 ι292 => (vp_in (x4 + 1) L ∧ (vp_in (x4 + 2) L ∧ (TG g291 x2 ∧ (P_X8_turn (xs ((x4 + 1).toNatClampNeg)) (xs ((x4 + 2).toNatClampNeg)) (subT ι292 x2) (fun r298 σ299 => (TG g291 x2 ∧ (P_X8_thrown  (subT (putT ι292 x2 σ299) x2) (fun r301 σ302 => ((r301 = r294 → ((¬ r294 = 0 → (P_X0_law_979 L xs BC BS Q k23 x1 x2 x3 x4 g291 (putT (putT ι292 x2 σ299) x2 σ302) (uc + 2) (us + 12))) ∧ (r294 = 0 → (gK g291 x3 = 109 ∧ (vp_in 0 (gL g291 x3) ∧ (((lg_cmp (((putT (putT ι292 x2 σ299) x2 σ302) x3 0).toInt64) r298.toInt64) = 0 → (P_X0_law_979 L xs BC BS Q k23 x1 x2 x3 x4 g291 (putT (putT ι292 x2 σ299) x2 σ302) (uc + 2) (us + 12))) ∧ (¬ (lg_cmp (((putT (putT ι292 x2 σ299) x2 σ302) x3 0).toInt64) r298.toInt64) = 0 → (Q 0 g291 (putT (putT ι292 x2 σ299) x2 σ302))))))))) ∧ (¬ r301 = r294 → (Q 0 g291 (putT (putT ι292 x2 σ299) x2 σ302))))))))))))))))))))
def P_X0_law_982 (L : Nat) (xs : Nat → Int32) (BC BS : Nat) (Q : Int32 → GT → S → Prop) (k23 : Nat → Nat → Nat → Int32 → GT → S → Nat → Nat → Prop) (x1 : Nat) (x2 : Nat) (x3 : Nat) (x4 : Int32) (g : GT) (ι : S) (uc us : Nat) : Prop := ((uc ≤ BC ∧ us ≤ BS) ∧ (gK g x1 = 2 ∧ (P_X1_orders g x1 ι (fun r309 ι310 => (TG g x2 ∧ (P_X8_orders  (subT ι310 x2) (fun r314 σ315 => ((r309 = r314 → (k23 x1 x2 x3 (x4 + 6) g (putT ι310 x2 σ315) (uc) (us))) ∧ (¬ r309 = r314 → (Q 0 g (putT ι310 x2 σ315)))))))))))
def P_X0_law_995 (L : Nat) (xs : Nat → Int32) (BC BS : Nat) (Q : Int32 → GT → S → Prop) (k23 : Nat → Nat → Nat → Int32 → GT → S → Nat → Nat → Prop) (x1 : Nat) (x2 : Nat) (x3 : Nat) (x4 : Int32) (g : GT) (ι : S) (uc us : Nat) : Prop := ((uc ≤ BC ∧ us ≤ BS) ∧ (gK g x1 = 2 ∧ (P_X1_order g x1 ι (fun r318 ι319 => (TG g x2 ∧ (P_X8_order  (subT ι319 x2) (fun r323 σ324 => ((r318 = r323 → (k23 x1 x2 x3 (x4 + 6) g (putT ι319 x2 σ324) (uc) (us))) ∧ (¬ r318 = r323 → (Q 0 g (putT ι319 x2 σ324)))))))))))
def P_X0_law_1061 (L : Nat) (xs : Nat → Int32) (BC BS : Nat) (Q : Int32 → GT → S → Prop) (k23 : Nat → Nat → Nat → Int32 → GT → S → Nat → Nat → Prop) (x1 : Nat) (x2 : Nat) (x3 : Nat) (x4 : Int32) (g : GT) (ι : S) (uc us : Nat) : Prop := (k23 x1 x2 x3 (x4 + 6) g ι (uc) (us))
def P_X0_law_1008 (L : Nat) (xs : Nat → Int32) (BC BS : Nat) (Q : Int32 → GT → S → Prop) (k23 : Nat → Nat → Nat → Int32 → GT → S → Nat → Nat → Prop) (x1 : Nat) (x2 : Nat) (x3 : Nat) (x4 : Int32) (g : GT) (ι : S) (uc us : Nat) : Prop := (vp_in (x4 + 1) L ∧ (x3 < 200 + gN g ∧ (x2 < 200 + gN g ∧ (x1 < 200 + gN g ∧ ((uc + 1 ≤ BC ∧ us + 6 ≤ BS) ∧ (P_X0_kept x1 (xs ((x4 + 1).toNatClampNeg)) x3 g ι (fun r334 g331 ι332 => (vp_in (x4 + 1) L ∧ (TG g331 x2 ∧ (P_X8_kept (xs ((x4 + 1).toNatClampNeg)) (subT ι332 x2) (fun r337 σ338 => (TG g331 x2 ∧ (P_X8_thrown  (subT (putT ι332 x2 σ338) x2) (fun r340 σ341 => ((r340 = r334 → ((¬ r334 = 0 → (P_X0_law_1061 L xs BC BS Q k23 x1 x2 x3 x4 g331 (putT (putT ι332 x2 σ338) x2 σ341) (uc + 1) (us + 6))) ∧ (r334 = 0 → (gK g331 x3 = 109 ∧ (vp_in 0 (gL g331 x3) ∧ (((lg_cmp (((putT (putT ι332 x2 σ338) x2 σ341) x3 0).toInt64) r337.toInt64) = 0 → (P_X0_law_1061 L xs BC BS Q k23 x1 x2 x3 x4 g331 (putT (putT ι332 x2 σ338) x2 σ341) (uc + 1) (us + 6))) ∧ (¬ (lg_cmp (((putT (putT ι332 x2 σ338) x2 σ341) x3 0).toInt64) r337.toInt64) = 0 → (Q 0 g331 (putT (putT ι332 x2 σ338) x2 σ341))))))))) ∧ (¬ r340 = r334 → (Q 0 g331 (putT (putT ι332 x2 σ338) x2 σ341))))))))))))))))))
def P_X0_law_1129 (L : Nat) (xs : Nat → Int32) (BC BS : Nat) (Q : Int32 → GT → S → Prop) (k23 : Nat → Nat → Nat → Int32 → GT → S → Nat → Nat → Prop) (x1 : Nat) (x2 : Nat) (x3 : Nat) (x4 : Int32) (g : GT) (ι : S) (uc us : Nat) : Prop := (k23 x1 x2 x3 (x4 + 6) g ι (uc) (us))
def P_X0_law_1064 (L : Nat) (xs : Nat → Int32) (BC BS : Nat) (Q : Int32 → GT → S → Prop) (k23 : Nat → Nat → Nat → Int32 → GT → S → Nat → Nat → Prop) (x1 : Nat) (x2 : Nat) (x3 : Nat) (x4 : Int32) (g : GT) (ι : S) (uc us : Nat) : Prop := (vp_in (x4 + 1) L ∧ (vp_in (x4 + 2) L ∧ (x3 < 200 + gN g ∧ (x2 < 200 + gN g ∧ (x1 < 200 + gN g ∧ ((uc + 3 ≤ BC ∧ us + 18 ≤ BS) ∧ (P_X0_every x1 (xs ((x4 + 1).toNatClampNeg)) (xs ((x4 + 2).toNatClampNeg)) x3 g ι (fun r356 g353 ι354 => (vp_in (x4 + 1) L ∧ (vp_in (x4 + 2) L ∧ (TG g353 x2 ∧ (P_X8_every (xs ((x4 + 1).toNatClampNeg)) (xs ((x4 + 2).toNatClampNeg)) (subT ι354 x2) (fun r360 σ361 => (TG g353 x2 ∧ (P_X8_thrown  (subT (putT ι354 x2 σ361) x2) (fun r363 σ364 => ((r363 = r356 → ((¬ r356 = 0 → (P_X0_law_1129 L xs BC BS Q k23 x1 x2 x3 x4 g353 (putT (putT ι354 x2 σ361) x2 σ364) (uc + 3) (us + 18))) ∧ (r356 = 0 → (gK g353 x3 = 109 ∧ (vp_in 0 (gL g353 x3) ∧ (((lg_cmp (((putT (putT ι354 x2 σ361) x2 σ364) x3 0).toInt64) r360.toInt64) = 0 → (P_X0_law_1129 L xs BC BS Q k23 x1 x2 x3 x4 g353 (putT (putT ι354 x2 σ361) x2 σ364) (uc + 3) (us + 18))) ∧ (¬ (lg_cmp (((putT (putT ι354 x2 σ361) x2 σ364) x3 0).toInt64) r360.toInt64) = 0 → (Q 0 g353 (putT (putT ι354 x2 σ361) x2 σ364))))))))) ∧ (¬ r363 = r356 → (Q 0 g353 (putT (putT ι354 x2 σ361) x2 σ364))))))))))))))))))))
def P_X0_law_1185 (L : Nat) (xs : Nat → Int32) (BC BS : Nat) (Q : Int32 → GT → S → Prop) (k23 : Nat → Nat → Nat → Int32 → GT → S → Nat → Nat → Prop) (x1 : Nat) (x2 : Nat) (x3 : Nat) (x4 : Int32) (g : GT) (ι : S) (uc us : Nat) : Prop := (k23 x1 x2 x3 (x4 + 6) g ι (uc) (us))
def P_X0_law_1132 (L : Nat) (xs : Nat → Int32) (BC BS : Nat) (Q : Int32 → GT → S → Prop) (k23 : Nat → Nat → Nat → Int32 → GT → S → Nat → Nat → Prop) (x1 : Nat) (x2 : Nat) (x3 : Nat) (x4 : Int32) (g : GT) (ι : S) (uc us : Nat) : Prop := (vp_in (x4 + 1) L ∧ (x3 < 200 + gN g ∧ (x2 < 200 + gN g ∧ (x1 < 200 + gN g ∧ ((uc + 1 ≤ BC ∧ us + 6 ≤ BS) ∧ (P_X0_bolsters x1 (xs ((x4 + 1).toNatClampNeg)) x3 g ι (fun r378 g375 ι376 => (vp_in (x4 + 1) L ∧ (TG g375 x2 ∧ (P_X8_bolsters (xs ((x4 + 1).toNatClampNeg)) (subT ι376 x2) (fun r381 σ382 => (TG g375 x2 ∧ (P_X8_thrown  (subT (putT ι376 x2 σ382) x2) (fun r384 σ385 => ((r384 = r378 → ((¬ r378 = 0 → (P_X0_law_1185 L xs BC BS Q k23 x1 x2 x3 x4 g375 (putT (putT ι376 x2 σ382) x2 σ385) (uc + 1) (us + 6))) ∧ (r378 = 0 → (gK g375 x3 = 109 ∧ (vp_in 0 (gL g375 x3) ∧ (((lg_cmp (((putT (putT ι376 x2 σ382) x2 σ385) x3 0).toInt64) r381.toInt64) = 0 → (P_X0_law_1185 L xs BC BS Q k23 x1 x2 x3 x4 g375 (putT (putT ι376 x2 σ382) x2 σ385) (uc + 1) (us + 6))) ∧ (¬ (lg_cmp (((putT (putT ι376 x2 σ382) x2 σ385) x3 0).toInt64) r381.toInt64) = 0 → (Q 0 g375 (putT (putT ι376 x2 σ382) x2 σ385))))))))) ∧ (¬ r384 = r378 → (Q 0 g375 (putT (putT ι376 x2 σ382) x2 σ385))))))))))))))))))
def P_X0_law_1241 (L : Nat) (xs : Nat → Int32) (BC BS : Nat) (Q : Int32 → GT → S → Prop) (k23 : Nat → Nat → Nat → Int32 → GT → S → Nat → Nat → Prop) (x1 : Nat) (x2 : Nat) (x3 : Nat) (x4 : Int32) (g : GT) (ι : S) (uc us : Nat) : Prop := (k23 x1 x2 x3 (x4 + 6) g ι (uc) (us))
def P_X0_law_1188 (L : Nat) (xs : Nat → Int32) (BC BS : Nat) (Q : Int32 → GT → S → Prop) (k23 : Nat → Nat → Nat → Int32 → GT → S → Nat → Nat → Prop) (x1 : Nat) (x2 : Nat) (x3 : Nat) (x4 : Int32) (g : GT) (ι : S) (uc us : Nat) : Prop := (vp_in (x4 + 1) L ∧ (x3 < 200 + gN g ∧ (x2 < 200 + gN g ∧ (x1 < 200 + gN g ∧ ((uc + 1 ≤ BC ∧ us + 6 ≤ BS) ∧ (P_X0_free x1 (xs ((x4 + 1).toNatClampNeg)) x3 g ι (fun r399 g396 ι397 => (vp_in (x4 + 1) L ∧ (TG g396 x2 ∧ (P_X8_free (xs ((x4 + 1).toNatClampNeg)) (subT ι397 x2) (fun r402 σ403 => (TG g396 x2 ∧ (P_X8_thrown  (subT (putT ι397 x2 σ403) x2) (fun r405 σ406 => ((r405 = r399 → ((¬ r399 = 0 → (P_X0_law_1241 L xs BC BS Q k23 x1 x2 x3 x4 g396 (putT (putT ι397 x2 σ403) x2 σ406) (uc + 1) (us + 6))) ∧ (r399 = 0 → (gK g396 x3 = 109 ∧ (vp_in 0 (gL g396 x3) ∧ (((lg_cmp (((putT (putT ι397 x2 σ403) x2 σ406) x3 0).toInt64) r402.toInt64) = 0 → (P_X0_law_1241 L xs BC BS Q k23 x1 x2 x3 x4 g396 (putT (putT ι397 x2 σ403) x2 σ406) (uc + 1) (us + 6))) ∧ (¬ (lg_cmp (((putT (putT ι397 x2 σ403) x2 σ406) x3 0).toInt64) r402.toInt64) = 0 → (Q 0 g396 (putT (putT ι397 x2 σ403) x2 σ406))))))))) ∧ (¬ r405 = r399 → (Q 0 g396 (putT (putT ι397 x2 σ403) x2 σ406))))))))))))))))))
def P_X0_law_1297 (L : Nat) (xs : Nat → Int32) (BC BS : Nat) (Q : Int32 → GT → S → Prop) (k23 : Nat → Nat → Nat → Int32 → GT → S → Nat → Nat → Prop) (x1 : Nat) (x2 : Nat) (x3 : Nat) (x4 : Int32) (g : GT) (ι : S) (uc us : Nat) : Prop := (k23 x1 x2 x3 (x4 + 6) g ι (uc) (us))
def P_X0_law_1244 (L : Nat) (xs : Nat → Int32) (BC BS : Nat) (Q : Int32 → GT → S → Prop) (k23 : Nat → Nat → Nat → Int32 → GT → S → Nat → Nat → Prop) (x1 : Nat) (x2 : Nat) (x3 : Nat) (x4 : Int32) (g : GT) (ι : S) (uc us : Nat) : Prop := (vp_in (x4 + 1) L ∧ (x3 < 200 + gN g ∧ (x2 < 200 + gN g ∧ (x1 < 200 + gN g ∧ ((uc + 1 ≤ BC ∧ us + 6 ≤ BS) ∧ (P_X0_outs x1 (xs ((x4 + 1).toNatClampNeg)) x3 g ι (fun r420 g417 ι418 => (vp_in (x4 + 1) L ∧ (TG g417 x2 ∧ (P_X8_outs (xs ((x4 + 1).toNatClampNeg)) (subT ι418 x2) (fun r423 σ424 => (TG g417 x2 ∧ (P_X8_thrown  (subT (putT ι418 x2 σ424) x2) (fun r426 σ427 => ((r426 = r420 → ((¬ r420 = 0 → (P_X0_law_1297 L xs BC BS Q k23 x1 x2 x3 x4 g417 (putT (putT ι418 x2 σ424) x2 σ427) (uc + 1) (us + 6))) ∧ (r420 = 0 → (gK g417 x3 = 109 ∧ (vp_in 0 (gL g417 x3) ∧ (((lg_cmp (((putT (putT ι418 x2 σ424) x2 σ427) x3 0).toInt64) r423.toInt64) = 0 → (P_X0_law_1297 L xs BC BS Q k23 x1 x2 x3 x4 g417 (putT (putT ι418 x2 σ424) x2 σ427) (uc + 1) (us + 6))) ∧ (¬ (lg_cmp (((putT (putT ι418 x2 σ424) x2 σ427) x3 0).toInt64) r423.toInt64) = 0 → (Q 0 g417 (putT (putT ι418 x2 σ424) x2 σ427))))))))) ∧ (¬ r426 = r420 → (Q 0 g417 (putT (putT ι418 x2 σ424) x2 σ427))))))))))))))))))
def P_X0_law_1300 (L : Nat) (xs : Nat → Int32) (BC BS : Nat) (Q : Int32 → GT → S → Prop) (k23 : Nat → Nat → Nat → Int32 → GT → S → Nat → Nat → Prop) (x1 : Nat) (x2 : Nat) (x3 : Nat) (x4 : Int32) (g : GT) (ι : S) (uc us : Nat) : Prop := ((uc ≤ BC ∧ us ≤ BS) ∧ (gK g x1 = 2 ∧ (P_X1_edge g x1 ι (fun r434 ι435 => (TG g x2 ∧ (P_X8_edge  (subT ι435 x2) (fun r439 σ440 => ((r434 = r439 → (k23 x1 x2 x3 (x4 + 6) g (putT ι435 x2 σ440) (uc) (us))) ∧ (¬ r434 = r439 → (Q 0 g (putT ι435 x2 σ440)))))))))))
def P_X0_law_1378 (L : Nat) (xs : Nat → Int32) (BC BS : Nat) (Q : Int32 → GT → S → Prop) (k23 : Nat → Nat → Nat → Int32 → GT → S → Nat → Nat → Prop) (x1 : Nat) (x2 : Nat) (x3 : Nat) (x4 : Int32) (g : GT) (ι : S) (uc us : Nat) : Prop := (k23 x1 x2 x3 (x4 + 6) g ι (uc) (us))
def P_X0_law_1313 (L : Nat) (xs : Nat → Int32) (BC BS : Nat) (Q : Int32 → GT → S → Prop) (k23 : Nat → Nat → Nat → Int32 → GT → S → Nat → Nat → Prop) (x1 : Nat) (x2 : Nat) (x3 : Nat) (x4 : Int32) (g : GT) (ι : S) (uc us : Nat) : Prop := (vp_in (x4 + 1) L ∧ (vp_in (x4 + 2) L ∧ (x3 < 200 + gN g ∧ (x2 < 200 + gN g ∧ (x1 < 200 + gN g ∧ ((uc + 2 ≤ BC ∧ us + 12 ≤ BS) ∧ (P_X0_fair x1 (xs ((x4 + 1).toNatClampNeg)) (xs ((x4 + 2).toNatClampNeg)) x3 g ι (fun r451 g448 ι449 => (vp_in (x4 + 1) L ∧ (vp_in (x4 + 2) L ∧ (TG g448 x2 ∧ (P_X8_fair (xs ((x4 + 1).toNatClampNeg)) (xs ((x4 + 2).toNatClampNeg)) (subT ι449 x2) (fun r455 σ456 => (TG g448 x2 ∧ (P_X8_thrown  (subT (putT ι449 x2 σ456) x2) (fun r458 σ459 => ((r458 = r451 → ((¬ r451 = 0 → (P_X0_law_1378 L xs BC BS Q k23 x1 x2 x3 x4 g448 (putT (putT ι449 x2 σ456) x2 σ459) (uc + 2) (us + 12))) ∧ (r451 = 0 → (gK g448 x3 = 109 ∧ (vp_in 0 (gL g448 x3) ∧ (((lg_cmp (((putT (putT ι449 x2 σ456) x2 σ459) x3 0).toInt64) r455.toInt64) = 0 → (P_X0_law_1378 L xs BC BS Q k23 x1 x2 x3 x4 g448 (putT (putT ι449 x2 σ456) x2 σ459) (uc + 2) (us + 12))) ∧ (¬ (lg_cmp (((putT (putT ι449 x2 σ456) x2 σ459) x3 0).toInt64) r455.toInt64) = 0 → (Q 0 g448 (putT (putT ι449 x2 σ456) x2 σ459))))))))) ∧ (¬ r458 = r451 → (Q 0 g448 (putT (putT ι449 x2 σ456) x2 σ459))))))))))))))))))))
def P_X0_law_1458 (L : Nat) (xs : Nat → Int32) (BC BS : Nat) (Q : Int32 → GT → S → Prop) (k23 : Nat → Nat → Nat → Int32 → GT → S → Nat → Nat → Prop) (x1 : Nat) (x2 : Nat) (x3 : Nat) (x4 : Int32) (g : GT) (ι : S) (uc us : Nat) : Prop := (k23 x1 x2 x3 (x4 + 6) g ι (uc) (us))
def P_X0_law_1381 (L : Nat) (xs : Nat → Int32) (BC BS : Nat) (Q : Int32 → GT → S → Prop) (k23 : Nat → Nat → Nat → Int32 → GT → S → Nat → Nat → Prop) (x1 : Nat) (x2 : Nat) (x3 : Nat) (x4 : Int32) (g : GT) (ι : S) (uc us : Nat) : Prop := (vp_in (x4 + 1) L ∧ (vp_in (x4 + 2) L ∧ (vp_in (x4 + 3) L ∧ (x3 < 200 + gN g ∧ (x2 < 200 + gN g ∧ (x1 < 200 + gN g ∧ ((uc + 1 ≤ BC ∧ us + 6 ≤ BS) ∧ (P_X0_see x1 (xs ((x4 + 1).toNatClampNeg)) (xs ((x4 + 2).toNatClampNeg)) (xs ((x4 + 3).toNatClampNeg)) x3 g ι (fun r475 g472 ι473 => (vp_in (x4 + 1) L ∧ (vp_in (x4 + 2) L ∧ (vp_in (x4 + 3) L ∧ (TG g472 x2 ∧ (P_X8_see (xs ((x4 + 1).toNatClampNeg)) (xs ((x4 + 2).toNatClampNeg)) (xs ((x4 + 3).toNatClampNeg)) (subT ι473 x2) (fun r480 σ481 => (TG g472 x2 ∧ (P_X8_thrown  (subT (putT ι473 x2 σ481) x2) (fun r483 σ484 => ((r483 = r475 → ((¬ r475 = 0 → (P_X0_law_1458 L xs BC BS Q k23 x1 x2 x3 x4 g472 (putT (putT ι473 x2 σ481) x2 σ484) (uc + 1) (us + 6))) ∧ (r475 = 0 → (gK g472 x3 = 109 ∧ (vp_in 0 (gL g472 x3) ∧ (((lg_cmp (((putT (putT ι473 x2 σ481) x2 σ484) x3 0).toInt64) r480.toInt64) = 0 → (P_X0_law_1458 L xs BC BS Q k23 x1 x2 x3 x4 g472 (putT (putT ι473 x2 σ481) x2 σ484) (uc + 1) (us + 6))) ∧ (¬ (lg_cmp (((putT (putT ι473 x2 σ481) x2 σ484) x3 0).toInt64) r480.toInt64) = 0 → (Q 0 g472 (putT (putT ι473 x2 σ481) x2 σ484))))))))) ∧ (¬ r483 = r475 → (Q 0 g472 (putT (putT ι473 x2 σ481) x2 σ484))))))))))))))))))))))
def P_X0_law_1461 (L : Nat) (xs : Nat → Int32) (BC BS : Nat) (Q : Int32 → GT → S → Prop) (k23 : Nat → Nat → Nat → Int32 → GT → S → Nat → Nat → Prop) (x1 : Nat) (x2 : Nat) (x3 : Nat) (x4 : Int32) (g : GT) (ι : S) (uc us : Nat) : Prop := ((uc ≤ BC ∧ us ≤ BS) ∧ (gK g x1 = 2 ∧ (P_X1_forget g x1 ι (fun r491 ι492 => (TG g x2 ∧ (P_X8_forget  (subT ι492 x2) (fun r496 σ497 => ((r491 = r496 → (k23 x1 x2 x3 (x4 + 6) g (putT ι492 x2 σ497) (uc) (us))) ∧ (¬ r491 = r496 → (Q 0 g (putT ι492 x2 σ497)))))))))))
def P_X0_law_1527 (L : Nat) (xs : Nat → Int32) (BC BS : Nat) (Q : Int32 → GT → S → Prop) (k23 : Nat → Nat → Nat → Int32 → GT → S → Nat → Nat → Prop) (x1 : Nat) (x2 : Nat) (x3 : Nat) (x4 : Int32) (g : GT) (ι : S) (uc us : Nat) : Prop := (k23 x1 x2 x3 (x4 + 6) g ι (uc) (us))
def P_X0_law_1474 (L : Nat) (xs : Nat → Int32) (BC BS : Nat) (Q : Int32 → GT → S → Prop) (k23 : Nat → Nat → Nat → Int32 → GT → S → Nat → Nat → Prop) (x1 : Nat) (x2 : Nat) (x3 : Nat) (x4 : Int32) (g : GT) (ι : S) (uc us : Nat) : Prop := (vp_in (x4 + 1) L ∧ (x3 < 200 + gN g ∧ (x2 < 200 + gN g ∧ (x1 < 200 + gN g ∧ ((uc + 1 ≤ BC ∧ us + 6 ≤ BS) ∧ (P_X0_fits x1 (xs ((x4 + 1).toNatClampNeg)) x3 g ι (fun r507 g504 ι505 => (vp_in (x4 + 1) L ∧ (TG g504 x2 ∧ (P_X8_fits (xs ((x4 + 1).toNatClampNeg)) (subT ι505 x2) (fun r510 σ511 => (TG g504 x2 ∧ (P_X8_thrown  (subT (putT ι505 x2 σ511) x2) (fun r513 σ514 => ((r513 = r507 → ((¬ r507 = 0 → (P_X0_law_1527 L xs BC BS Q k23 x1 x2 x3 x4 g504 (putT (putT ι505 x2 σ511) x2 σ514) (uc + 1) (us + 6))) ∧ (r507 = 0 → (gK g504 x3 = 109 ∧ (vp_in 0 (gL g504 x3) ∧ (((lg_cmp (((putT (putT ι505 x2 σ511) x2 σ514) x3 0).toInt64) r510.toInt64) = 0 → (P_X0_law_1527 L xs BC BS Q k23 x1 x2 x3 x4 g504 (putT (putT ι505 x2 σ511) x2 σ514) (uc + 1) (us + 6))) ∧ (¬ (lg_cmp (((putT (putT ι505 x2 σ511) x2 σ514) x3 0).toInt64) r510.toInt64) = 0 → (Q 0 g504 (putT (putT ι505 x2 σ511) x2 σ514))))))))) ∧ (¬ r513 = r507 → (Q 0 g504 (putT (putT ι505 x2 σ511) x2 σ514))))))))))))))))))
def P_X0_law_1583 (L : Nat) (xs : Nat → Int32) (BC BS : Nat) (Q : Int32 → GT → S → Prop) (k23 : Nat → Nat → Nat → Int32 → GT → S → Nat → Nat → Prop) (x1 : Nat) (x2 : Nat) (x3 : Nat) (x4 : Int32) (g : GT) (ι : S) (uc us : Nat) : Prop := (k23 x1 x2 x3 (x4 + 6) g ι (uc) (us))
def P_X0_law_1530 (L : Nat) (xs : Nat → Int32) (BC BS : Nat) (Q : Int32 → GT → S → Prop) (k23 : Nat → Nat → Nat → Int32 → GT → S → Nat → Nat → Prop) (x1 : Nat) (x2 : Nat) (x3 : Nat) (x4 : Int32) (g : GT) (ι : S) (uc us : Nat) : Prop := (vp_in (x4 + 1) L ∧ (x3 < 200 + gN g ∧ (x2 < 200 + gN g ∧ (x1 < 200 + gN g ∧ ((uc + 1 ≤ BC ∧ us + 6 ≤ BS) ∧ (P_X0_without x1 (xs ((x4 + 1).toNatClampNeg)) x3 g ι (fun r528 g525 ι526 => (vp_in (x4 + 1) L ∧ (TG g525 x2 ∧ (P_X8_without (xs ((x4 + 1).toNatClampNeg)) (subT ι526 x2) (fun r531 σ532 => (TG g525 x2 ∧ (P_X8_thrown  (subT (putT ι526 x2 σ532) x2) (fun r534 σ535 => ((r534 = r528 → ((¬ r528 = 0 → (P_X0_law_1583 L xs BC BS Q k23 x1 x2 x3 x4 g525 (putT (putT ι526 x2 σ532) x2 σ535) (uc + 1) (us + 6))) ∧ (r528 = 0 → (gK g525 x3 = 109 ∧ (vp_in 0 (gL g525 x3) ∧ (((lg_cmp (((putT (putT ι526 x2 σ532) x2 σ535) x3 0).toInt64) r531.toInt64) = 0 → (P_X0_law_1583 L xs BC BS Q k23 x1 x2 x3 x4 g525 (putT (putT ι526 x2 σ532) x2 σ535) (uc + 1) (us + 6))) ∧ (¬ (lg_cmp (((putT (putT ι526 x2 σ532) x2 σ535) x3 0).toInt64) r531.toInt64) = 0 → (Q 0 g525 (putT (putT ι526 x2 σ532) x2 σ535))))))))) ∧ (¬ r534 = r528 → (Q 0 g525 (putT (putT ι526 x2 σ532) x2 σ535))))))))))))))))))
def P_X0_law_1663 (L : Nat) (xs : Nat → Int32) (BC BS : Nat) (Q : Int32 → GT → S → Prop) (k23 : Nat → Nat → Nat → Int32 → GT → S → Nat → Nat → Prop) (x1 : Nat) (x2 : Nat) (x3 : Nat) (x4 : Int32) (g : GT) (ι : S) (uc us : Nat) : Prop := (k23 x1 x2 x3 (x4 + 6) g ι (uc) (us))
def P_X0_law_1586 (L : Nat) (xs : Nat → Int32) (BC BS : Nat) (Q : Int32 → GT → S → Prop) (k23 : Nat → Nat → Nat → Int32 → GT → S → Nat → Nat → Prop) (x1 : Nat) (x2 : Nat) (x3 : Nat) (x4 : Int32) (g : GT) (ι : S) (uc us : Nat) : Prop := (vp_in (x4 + 1) L ∧ (vp_in (x4 + 2) L ∧ (vp_in (x4 + 3) L ∧ (x3 < 200 + gN g ∧ (x2 < 200 + gN g ∧ (x1 < 200 + gN g ∧ ((uc + 2 ≤ BC ∧ us + 12 ≤ BS) ∧ (P_X0_year x1 (xs ((x4 + 1).toNatClampNeg)) (xs ((x4 + 2).toNatClampNeg)) (xs ((x4 + 3).toNatClampNeg)) x3 g ι (fun r551 g548 ι549 => (vp_in (x4 + 1) L ∧ (vp_in (x4 + 2) L ∧ (vp_in (x4 + 3) L ∧ (TG g548 x2 ∧ (P_X8_year (xs ((x4 + 1).toNatClampNeg)) (xs ((x4 + 2).toNatClampNeg)) (xs ((x4 + 3).toNatClampNeg)) (subT ι549 x2) (fun r556 σ557 => (TG g548 x2 ∧ (P_X8_thrown  (subT (putT ι549 x2 σ557) x2) (fun r559 σ560 => ((r559 = r551 → ((¬ r551 = 0 → (P_X0_law_1663 L xs BC BS Q k23 x1 x2 x3 x4 g548 (putT (putT ι549 x2 σ557) x2 σ560) (uc + 2) (us + 12))) ∧ (r551 = 0 → (gK g548 x3 = 109 ∧ (vp_in 0 (gL g548 x3) ∧ (((lg_cmp (((putT (putT ι549 x2 σ557) x2 σ560) x3 0).toInt64) r556.toInt64) = 0 → (P_X0_law_1663 L xs BC BS Q k23 x1 x2 x3 x4 g548 (putT (putT ι549 x2 σ557) x2 σ560) (uc + 2) (us + 12))) ∧ (¬ (lg_cmp (((putT (putT ι549 x2 σ557) x2 σ560) x3 0).toInt64) r556.toInt64) = 0 → (Q 0 g548 (putT (putT ι549 x2 σ557) x2 σ560))))))))) ∧ (¬ r559 = r551 → (Q 0 g548 (putT (putT ι549 x2 σ557) x2 σ560))))))))))))))))))))))
def P_X0_law_1666 (L : Nat) (xs : Nat → Int32) (BC BS : Nat) (Q : Int32 → GT → S → Prop) (k23 : Nat → Nat → Nat → Int32 → GT → S → Nat → Nat → Prop) (x1 : Nat) (x2 : Nat) (x3 : Nat) (x4 : Int32) (g : GT) (ι : S) (uc us : Nat) : Prop := ((uc ≤ BC ∧ us ≤ BS) ∧ (gK g x1 = 2 ∧ (P_X1_image g x1 ι (fun ι568 => (TG g x2 ∧ (P_X8_image  (subT ι568 x2) (fun σ573 => (k23 x1 x2 x3 (x4 + 6) g (putT ι568 x2 σ573) (uc) (us)))))))))
def P_X0_law_1677 (L : Nat) (xs : Nat → Int32) (BC BS : Nat) (Q : Int32 → GT → S → Prop) (k23 : Nat → Nat → Nat → Int32 → GT → S → Nat → Nat → Prop) (x1 : Nat) (x2 : Nat) (x3 : Nat) (x4 : Int32) (g : GT) (ι : S) (uc us : Nat) : Prop := ((uc ≤ BC ∧ us ≤ BS) ∧ (gK g x1 = 2 ∧ (P_X1_restore g x1 ι (fun r575 ι576 => (TG g x2 ∧ (P_X8_restore  (subT ι576 x2) (fun r580 σ581 => ((r575 = r580 → (k23 x1 x2 x3 (x4 + 6) g (putT ι576 x2 σ581) (uc) (us))) ∧ (¬ r575 = r580 → (Q 0 g (putT ι576 x2 σ581)))))))))))
def P_X0_law_23 (L : Nat) (xs : Nat → Int32) (BC BS : Nat) (Q : Int32 → GT → S → Prop) : Nat → Nat → Nat → Nat → Int32 → GT → S → Nat → Nat → Prop
  | 0, _, _, _, _, _, _, _, _ => False
  | n + 1, x1, x2, x3, x4, g, ι, uc, us => ((((nI L) - 6) < x4 → ((uc ≤ BC ∧ us ≤ BS) ∧ (Q 1 g ι))) ∧ (¬ ((nI L) - 6) < x4 → (vp_in x4 L ∧ ((((xs x4.toNatClampNeg) &&& 31) = 0 → (P_X0_law_180 L xs BC BS Q (fun z0 z1 z2 z3 z4 z5 z6 z7 => P_X0_law_23 L xs BC BS Q  n z0 z1 z2 z3 z4 z5 z6 z7) x1 x2 x3 x4 g ι (uc) (us))) ∧ (((xs x4.toNatClampNeg) &&& 31) = 1 → (P_X0_law_253 L xs BC BS Q (fun z0 z1 z2 z3 z4 z5 z6 z7 => P_X0_law_23 L xs BC BS Q  n z0 z1 z2 z3 z4 z5 z6 z7) x1 x2 x3 x4 g ι (uc) (us))) ∧ (((xs x4.toNatClampNeg) &&& 31) = 2 → (P_X0_law_309 L xs BC BS Q (fun z0 z1 z2 z3 z4 z5 z6 z7 => P_X0_law_23 L xs BC BS Q  n z0 z1 z2 z3 z4 z5 z6 z7) x1 x2 x3 x4 g ι (uc) (us))) ∧ (((xs x4.toNatClampNeg) &&& 31) = 3 → (P_X0_law_322 L xs BC BS Q (fun z0 z1 z2 z3 z4 z5 z6 z7 => P_X0_law_23 L xs BC BS Q  n z0 z1 z2 z3 z4 z5 z6 z7) x1 x2 x3 x4 g ι (uc) (us))) ∧ (((xs x4.toNatClampNeg) &&& 31) = 4 → (P_X0_law_378 L xs BC BS Q (fun z0 z1 z2 z3 z4 z5 z6 z7 => P_X0_law_23 L xs BC BS Q  n z0 z1 z2 z3 z4 z5 z6 z7) x1 x2 x3 x4 g ι (uc) (us))) ∧ (((xs x4.toNatClampNeg) &&& 31) = 5 → (P_X0_law_446 L xs BC BS Q (fun z0 z1 z2 z3 z4 z5 z6 z7 => P_X0_law_23 L xs BC BS Q  n z0 z1 z2 z3 z4 z5 z6 z7) x1 x2 x3 x4 g ι (uc) (us))) ∧ (((xs x4.toNatClampNeg) &&& 31) = 6 → (P_X0_law_483 L xs BC BS Q (fun z0 z1 z2 z3 z4 z5 z6 z7 => P_X0_law_23 L xs BC BS Q  n z0 z1 z2 z3 z4 z5 z6 z7) x1 x2 x3 x4 g ι (uc) (us))) ∧ (((xs x4.toNatClampNeg) &&& 31) = 7 → (P_X0_law_508 L xs BC BS Q (fun z0 z1 z2 z3 z4 z5 z6 z7 => P_X0_law_23 L xs BC BS Q  n z0 z1 z2 z3 z4 z5 z6 z7) x1 x2 x3 x4 g ι (uc) (us))) ∧ (((xs x4.toNatClampNeg) &&& 31) = 8 → (P_X0_law_576 L xs BC BS Q (fun z0 z1 z2 z3 z4 z5 z6 z7 => P_X0_law_23 L xs BC BS Q  n z0 z1 z2 z3 z4 z5 z6 z7) x1 x2 x3 x4 g ι (uc) (us))) ∧ (((xs x4.toNatClampNeg) &&& 31) = 9 → (P_X0_law_629 L xs BC BS Q (fun z0 z1 z2 z3 z4 z5 z6 z7 => P_X0_law_23 L xs BC BS Q  n z0 z1 z2 z3 z4 z5 z6 z7) x1 x2 x3 x4 g ι (uc) (us))) ∧ (((xs x4.toNatClampNeg) &&& 31) = 10 → (P_X0_law_697 L xs BC BS Q (fun z0 z1 z2 z3 z4 z5 z6 z7 => P_X0_law_23 L xs BC BS Q  n z0 z1 z2 z3 z4 z5 z6 z7) x1 x2 x3 x4 g ι (uc) (us))) ∧ (((xs x4.toNatClampNeg) &&& 31) = 11 → (P_X0_law_710 L xs BC BS Q (fun z0 z1 z2 z3 z4 z5 z6 z7 => P_X0_law_23 L xs BC BS Q  n z0 z1 z2 z3 z4 z5 z6 z7) x1 x2 x3 x4 g ι (uc) (us))) ∧ (((xs x4.toNatClampNeg) &&& 31) = 12 → (P_X0_law_766 L xs BC BS Q (fun z0 z1 z2 z3 z4 z5 z6 z7 => P_X0_law_23 L xs BC BS Q  n z0 z1 z2 z3 z4 z5 z6 z7) x1 x2 x3 x4 g ι (uc) (us))) ∧ (((xs x4.toNatClampNeg) &&& 31) = 13 → (P_X0_law_834 L xs BC BS Q (fun z0 z1 z2 z3 z4 z5 z6 z7 => P_X0_law_23 L xs BC BS Q  n z0 z1 z2 z3 z4 z5 z6 z7) x1 x2 x3 x4 g ι (uc) (us))) ∧ (((xs x4.toNatClampNeg) &&& 31) = 14 → (P_X0_law_914 L xs BC BS Q (fun z0 z1 z2 z3 z4 z5 z6 z7 => P_X0_law_23 L xs BC BS Q  n z0 z1 z2 z3 z4 z5 z6 z7) x1 x2 x3 x4 g ι (uc) (us))) ∧ (((xs x4.toNatClampNeg) &&& 31) = 15 → (P_X0_law_982 L xs BC BS Q (fun z0 z1 z2 z3 z4 z5 z6 z7 => P_X0_law_23 L xs BC BS Q  n z0 z1 z2 z3 z4 z5 z6 z7) x1 x2 x3 x4 g ι (uc) (us))) ∧ (((xs x4.toNatClampNeg) &&& 31) = 16 → (P_X0_law_995 L xs BC BS Q (fun z0 z1 z2 z3 z4 z5 z6 z7 => P_X0_law_23 L xs BC BS Q  n z0 z1 z2 z3 z4 z5 z6 z7) x1 x2 x3 x4 g ι (uc) (us))) ∧ (((xs x4.toNatClampNeg) &&& 31) = 17 → (P_X0_law_1008 L xs BC BS Q (fun z0 z1 z2 z3 z4 z5 z6 z7 => P_X0_law_23 L xs BC BS Q  n z0 z1 z2 z3 z4 z5 z6 z7) x1 x2 x3 x4 g ι (uc) (us))) ∧ (((xs x4.toNatClampNeg) &&& 31) = 18 → (P_X0_law_1064 L xs BC BS Q (fun z0 z1 z2 z3 z4 z5 z6 z7 => P_X0_law_23 L xs BC BS Q  n z0 z1 z2 z3 z4 z5 z6 z7) x1 x2 x3 x4 g ι (uc) (us))) ∧ (((xs x4.toNatClampNeg) &&& 31) = 19 → (P_X0_law_1132 L xs BC BS Q (fun z0 z1 z2 z3 z4 z5 z6 z7 => P_X0_law_23 L xs BC BS Q  n z0 z1 z2 z3 z4 z5 z6 z7) x1 x2 x3 x4 g ι (uc) (us))) ∧ (((xs x4.toNatClampNeg) &&& 31) = 20 → (P_X0_law_1188 L xs BC BS Q (fun z0 z1 z2 z3 z4 z5 z6 z7 => P_X0_law_23 L xs BC BS Q  n z0 z1 z2 z3 z4 z5 z6 z7) x1 x2 x3 x4 g ι (uc) (us))) ∧ (((xs x4.toNatClampNeg) &&& 31) = 21 → (P_X0_law_1244 L xs BC BS Q (fun z0 z1 z2 z3 z4 z5 z6 z7 => P_X0_law_23 L xs BC BS Q  n z0 z1 z2 z3 z4 z5 z6 z7) x1 x2 x3 x4 g ι (uc) (us))) ∧ (((xs x4.toNatClampNeg) &&& 31) = 22 → (P_X0_law_1300 L xs BC BS Q (fun z0 z1 z2 z3 z4 z5 z6 z7 => P_X0_law_23 L xs BC BS Q  n z0 z1 z2 z3 z4 z5 z6 z7) x1 x2 x3 x4 g ι (uc) (us))) ∧ (((xs x4.toNatClampNeg) &&& 31) = 23 → (P_X0_law_1313 L xs BC BS Q (fun z0 z1 z2 z3 z4 z5 z6 z7 => P_X0_law_23 L xs BC BS Q  n z0 z1 z2 z3 z4 z5 z6 z7) x1 x2 x3 x4 g ι (uc) (us))) ∧ (((xs x4.toNatClampNeg) &&& 31) = 24 → (P_X0_law_1381 L xs BC BS Q (fun z0 z1 z2 z3 z4 z5 z6 z7 => P_X0_law_23 L xs BC BS Q  n z0 z1 z2 z3 z4 z5 z6 z7) x1 x2 x3 x4 g ι (uc) (us))) ∧ (((xs x4.toNatClampNeg) &&& 31) = 25 → (P_X0_law_1461 L xs BC BS Q (fun z0 z1 z2 z3 z4 z5 z6 z7 => P_X0_law_23 L xs BC BS Q  n z0 z1 z2 z3 z4 z5 z6 z7) x1 x2 x3 x4 g ι (uc) (us))) ∧ (((xs x4.toNatClampNeg) &&& 31) = 26 → (P_X0_law_1474 L xs BC BS Q (fun z0 z1 z2 z3 z4 z5 z6 z7 => P_X0_law_23 L xs BC BS Q  n z0 z1 z2 z3 z4 z5 z6 z7) x1 x2 x3 x4 g ι (uc) (us))) ∧ (((xs x4.toNatClampNeg) &&& 31) = 27 → (P_X0_law_1530 L xs BC BS Q (fun z0 z1 z2 z3 z4 z5 z6 z7 => P_X0_law_23 L xs BC BS Q  n z0 z1 z2 z3 z4 z5 z6 z7) x1 x2 x3 x4 g ι (uc) (us))) ∧ (((xs x4.toNatClampNeg) &&& 31) = 28 → (P_X0_law_1586 L xs BC BS Q (fun z0 z1 z2 z3 z4 z5 z6 z7 => P_X0_law_23 L xs BC BS Q  n z0 z1 z2 z3 z4 z5 z6 z7) x1 x2 x3 x4 g ι (uc) (us))) ∧ (((xs x4.toNatClampNeg) &&& 31) = 29 → (P_X0_law_1666 L xs BC BS Q (fun z0 z1 z2 z3 z4 z5 z6 z7 => P_X0_law_23 L xs BC BS Q  n z0 z1 z2 z3 z4 z5 z6 z7) x1 x2 x3 x4 g ι (uc) (us))) ∧ (((xs x4.toNatClampNeg) &&& 31) = 30 → (P_X0_law_1677 L xs BC BS Q (fun z0 z1 z2 z3 z4 z5 z6 z7 => P_X0_law_23 L xs BC BS Q  n z0 z1 z2 z3 z4 z5 z6 z7) x1 x2 x3 x4 g ι (uc) (us))) ∧ ((((xs x4.toNatClampNeg) &&& 31).toInt < 0 ∨ 30 < ((xs x4.toNatClampNeg) &&& 31).toInt) → (P_X0_law_23 L xs BC BS Q  n x1 x2 x3 (x4 + 6) g ι (uc) (us)))))))
def P_X0_law (L : Nat) (xs : Nat → Int32) (BC BS : Nat)  (g : GT) (ι : S) (Q : Int32 → GT → S → Prop) : Prop := ((1 ≤ BC ∧ 21 ≤ BS) ∧ (∀ g588 ι589, g588 = newg g 2 0 → ι589 = newi g ι → (∃ b592 d593, ((1 + b592 ≤ BC ∧ 21 + d593 ≤ BS) ∧ (P_X1_init b592 d593 (200 + gN g) g588 ι589 (fun g595 ι596 => ((1 + b592 + 1 ≤ BC ∧ 21 + d593 + 73 ≤ BS) ∧ (∀ g601 ι602, g601 = newg g595 1 0 → ι602 = newi g595 ι596 → (∃ b605 d606, ((1 + b592 + 1 + b605 ≤ BC ∧ 21 + d593 + 73 + d606 ≤ BS) ∧ (P_X8_init b605 d606 (200 + gN g595) g601 ι602 (fun g608 ι609 => ((1 + b592 + 1 + b605 + 1 ≤ BC ∧ 21 + d593 + 73 + d606 + 1 ≤ BS) ∧ (∀ g614 ι615, g614 = newg g608 109 1 → ι615 = newi g608 ι609 → (∃ n9, P_X0_law_23 L xs BC BS Q n9 (200 + gN g) (200 + gN g595) (200 + gN g608) 0 g614 ι615 (1 + b592 + 1 + b605 + 1) (21 + d593 + 73 + d606 + 1))))))))))))))))
set_option maxHeartbeats 2000000 in
theorem w_X0_law_180 (hlt : l.stackTraces = false) {L : Nat} {xs : Nat → Int32} {Zq : State → Prop} (hsc : SC s A ad0 L xs) {BC BS : Nat} {Q : Int32 → GT → S → Prop} (hret : LRet p l e s m args below meth c D dA A L xs BC BS Q Zq) {k23 : Nat → Nat → Nat → Int32 → GT → S → Nat → Nat → Prop} (hk23 : ∀ (x1 : Nat) (x2 : Nat) (x3 : Nat) (x4 : Int32) (g : GT) (ι : S) (uc us : Nat) (ad : Nat → Nat) (H : Heap) (locs : List Loc) (ls : Array Slot), k23 x1 x2 x3 x4 g ι uc us → CX p s m args c meth cL_law 7 (some .boolean) RX0 D dA ad A → PW D dA A s.heap ad (HS g ι) H locs → HA ad0 g0 ad g → LH ad ls 7 [(0, pX 140), (1, pX x1), (2, pX x2), (3, pX x3), (4, iX x4)] → W p l e ({ frames := 8192, cells := BC, slots := BS, locals := 100000 } : Room) s m args below meth c H locs (uc) (us) Zq (F0 m 23 ls [])) : ∀ (x1 : Nat) (x2 : Nat) (x3 : Nat) (x4 : Int32) (g : GT) (ι : S) (uc us : Nat) (ad : Nat → Nat) (H : Heap) (locs : List Loc) (ls : Array Slot), P_X0_law_180 L xs BC BS Q k23 x1 x2 x3 x4 g ι uc us → CX p s m args c meth cL_law 7 (some .boolean) RX0 D dA ad A → PW D dA A s.heap ad (HS g ι) H locs → HA ad0 g0 ad g → LH ad ls 7 [(0, pX 140), (1, pX x1), (2, pX x2), (3, pX x3), (4, iX x4)] → W p l e ({ frames := 8192, cells := BC, slots := BS, locals := 100000 } : Room) s m args below meth c H locs (uc) (us) Zq (F0 m 180 ls []) := by
  intro x1 x2 x3 x4 g ι uc us ad H locs ls hF X hP hag hl
  unfold P_X0_law_180 at hF
  refine ph_aload_n (n := 1) X hl dL_law_180 rfl rfl ?_
  refine ph_aload_n (n := 0) X hl dL_law_181 rfl rfl ?_
  refine ph_iload (n := 4) X hl dL_law_182 rfl ?_
  refine lv_iconst (v := 1) X.1 X.2.1 dL_law_184 (by decide) ?_
  refine lv_iadd X.1 X.2.1 dL_law_185 ?_
  obtain ⟨hr1, hF⟩ := hF
  refine hl_sld X hP (sc_ad hsc (hag.2 140 (by omega))) hr1 (k := (x4 + 1).toNatClampNeg) rfl dL_law_186 ?_
  refine ph_aload_n (n := 0) X hl dL_law_187 rfl rfl ?_
  refine ph_iload (n := 4) X hl dL_law_188 rfl ?_
  refine lv_iconst (v := 2) X.1 X.2.1 dL_law_190 (by decide) ?_
  refine lv_iadd X.1 X.2.1 dL_law_191 ?_
  obtain ⟨hr2, hF⟩ := hF
  refine hl_sld X hP (sc_ad hsc (hag.2 140 (by omega))) hr2 (k := (x4 + 2).toNatClampNeg) rfl dL_law_192 ?_
  refine ph_aload_n (n := 0) X hl dL_law_193 rfl rfl ?_
  refine ph_iload (n := 4) X hl dL_law_194 rfl ?_
  refine lv_iconst (v := 3) X.1 X.2.1 dL_law_196 (by decide) ?_
  refine lv_iadd X.1 X.2.1 dL_law_197 ?_
  obtain ⟨hr3, hF⟩ := hF
  refine hl_sld X hP (sc_ad hsc (hag.2 140 (by omega))) hr3 (k := (x4 + 3).toNatClampNeg) rfl dL_law_198 ?_
  refine ph_aload_n (n := 0) X hl dL_law_199 rfl rfl ?_
  refine ph_iload (n := 4) X hl dL_law_200 rfl ?_
  refine lv_iconst (v := 4) X.1 X.2.1 dL_law_202 (by decide) ?_
  refine lv_iadd X.1 X.2.1 dL_law_203 ?_
  obtain ⟨hr4, hF⟩ := hF
  refine hl_sld X hP (sc_ad hsc (hag.2 140 (by omega))) hr4 (k := (x4 + 4).toNatClampNeg) rfl dL_law_204 ?_
  refine ph_aload_n (n := 0) X hl dL_law_205 rfl rfl ?_
  refine ph_iload (n := 4) X hl dL_law_206 rfl ?_
  refine lv_iconst (v := 5) X.1 X.2.1 dL_law_208 (by decide) ?_
  refine lv_iadd X.1 X.2.1 dL_law_209 ?_
  obtain ⟨hr5, hF⟩ := hF
  refine hl_sld X hP (sc_ad hsc (hag.2 140 (by omega))) hr5 (k := (x4 + 5).toNatClampNeg) rfl dL_law_210 ?_
  obtain ⟨hd6, hF⟩ := hF
  obtain ⟨hm10, hF⟩ := hF
  refine cg_callVi 1 [iX (xs ((x4 + 1).toNatClampNeg)), iX (xs ((x4 + 2).toNatClampNeg)), iX (xs ((x4 + 3).toNatClampNeg)), iX (xs ((x4 + 4).toNatClampNeg)), iX (xs ((x4 + 5).toNatClampNeg))] X hP hm10 (met_X1_feed l D dA ad g _ _ hF) (cwV 5 X.2.2.2.2.1 (lw_V q863 q864 q865 q98 q866) rfl rfl rfl (by decide +kernel) ⟨Nat.le_of_ble_eq_true rfl, Nat.le_of_ble_eq_true rfl⟩) rfl hl (k8 := 0) (cs0 (k := 0)) (by decide) hd6 dL_law_211 rfl (fun r7 ι8 H locs hF hP => ?_)
  refine ph_aload_n (n := 2) X hl dL_law_214 rfl rfl ?_
  refine ph_aload_n (n := 0) X hl dL_law_215 rfl rfl ?_
  refine ph_iload (n := 4) X hl dL_law_216 rfl ?_
  refine lv_iconst (v := 1) X.1 X.2.1 dL_law_218 (by decide) ?_
  refine lv_iadd X.1 X.2.1 dL_law_219 ?_
  obtain ⟨hr11, hF⟩ := hF
  refine hl_sld X hP (sc_ad hsc (hag.2 140 (by omega))) hr11 (k := (x4 + 1).toNatClampNeg) rfl dL_law_220 ?_
  refine ph_aload_n (n := 0) X hl dL_law_221 rfl rfl ?_
  refine ph_iload (n := 4) X hl dL_law_222 rfl ?_
  refine lv_iconst (v := 2) X.1 X.2.1 dL_law_224 (by decide) ?_
  refine lv_iadd X.1 X.2.1 dL_law_225 ?_
  obtain ⟨hr12, hF⟩ := hF
  refine hl_sld X hP (sc_ad hsc (hag.2 140 (by omega))) hr12 (k := (x4 + 2).toNatClampNeg) rfl dL_law_226 ?_
  refine ph_aload_n (n := 0) X hl dL_law_227 rfl rfl ?_
  refine ph_iload (n := 4) X hl dL_law_228 rfl ?_
  refine lv_iconst (v := 3) X.1 X.2.1 dL_law_230 (by decide) ?_
  refine lv_iadd X.1 X.2.1 dL_law_231 ?_
  obtain ⟨hr13, hF⟩ := hF
  refine hl_sld X hP (sc_ad hsc (hag.2 140 (by omega))) hr13 (k := (x4 + 3).toNatClampNeg) rfl dL_law_232 ?_
  refine ph_aload_n (n := 0) X hl dL_law_233 rfl rfl ?_
  refine ph_iload (n := 4) X hl dL_law_234 rfl ?_
  refine lv_iconst (v := 4) X.1 X.2.1 dL_law_236 (by decide) ?_
  refine lv_iadd X.1 X.2.1 dL_law_237 ?_
  obtain ⟨hr14, hF⟩ := hF
  refine hl_sld X hP (sc_ad hsc (hag.2 140 (by omega))) hr14 (k := (x4 + 4).toNatClampNeg) rfl dL_law_238 ?_
  refine ph_aload_n (n := 0) X hl dL_law_239 rfl rfl ?_
  refine ph_iload (n := 4) X hl dL_law_240 rfl ?_
  refine lv_iconst (v := 5) X.1 X.2.1 dL_law_242 (by decide) ?_
  refine lv_iadd X.1 X.2.1 dL_law_243 ?_
  obtain ⟨hr15, hF⟩ := hF
  refine hl_sld X hP (sc_ad hsc (hag.2 140 (by omega))) hr15 (k := (x4 + 5).toNatClampNeg) rfl dL_law_244 ?_
  obtain ⟨hT16, hF⟩ := hF
  refine hg_callTi [xs ((x4 + 1).toNatClampNeg), xs ((x4 + 2).toNatClampNeg), xs ((x4 + 3).toNatClampNeg), xs ((x4 + 4).toNatClampNeg), xs ((x4 + 5).toNatClampNeg)] X hP hT16 (met_X8_feed l D dA (adT ad x2) _ _ hF) (cwV 5 X.2.2.2.2.1 (lw_V q1994 q1995 q1996 q126 q1997) rfl rfl rfl (by decide +kernel) ⟨Nat.le_of_ble_eq_true rfl, Nat.le_of_ble_eq_true rfl⟩) rfl hl (k8 := 1) (csi (cs0 (k := 0))) (by decide) hd6 dL_law_245 rfl (fun r17 σ18 H locs hF hP => ?_)
  show W p l e ({ frames := 8192, cells := BC, slots := BS, locals := 100000 } : Room) s m args below meth c H locs (uc) (us) Zq (F0 m 248 ls [.int r17, .int r7])
  refine lv_icmp_eq (tgt := 1690) X.1 X.2.1 dL_law_248 (by decide) (fun c19 => ?_) (fun c19 => ?_)
  · have hF := hF.1 c19
    refine ph_iinc (v := x4 + 6) (k := 4) X hl dL_law_1690 rfl rfl (by decide) rfl (fun ls hl => ?_)
    refine lv_goto (tgt := 23) X.1 X.2.1 dL_law_1693 (by decide) ?_
    exact hk23 _ _ _ _ _ _ _ _ _ _ _ _ hF X hP hag (lh_sub hl [1, 2, 3, 4, 0] rfl)
  · have hF := hF.2 c19
    refine lv_iconst (v := 0) X.1 X.2.1 dL_law_251 (by decide) ?_
    exact hret _ _ _ _ _ _ _ _ _ _ dL_law_252 hF hd6 X hP
set_option maxHeartbeats 2000000 in
theorem w_X0_law_306 (hlt : l.stackTraces = false) {L : Nat} {xs : Nat → Int32} {Zq : State → Prop} (hsc : SC s A ad0 L xs) {BC BS : Nat} {Q : Int32 → GT → S → Prop} (hret : LRet p l e s m args below meth c D dA A L xs BC BS Q Zq) {k23 : Nat → Nat → Nat → Int32 → GT → S → Nat → Nat → Prop} (hk23 : ∀ (x1 : Nat) (x2 : Nat) (x3 : Nat) (x4 : Int32) (g : GT) (ι : S) (uc us : Nat) (ad : Nat → Nat) (H : Heap) (locs : List Loc) (ls : Array Slot), k23 x1 x2 x3 x4 g ι uc us → CX p s m args c meth cL_law 7 (some .boolean) RX0 D dA ad A → PW D dA A s.heap ad (HS g ι) H locs → HA ad0 g0 ad g → LH ad ls 7 [(0, pX 140), (1, pX x1), (2, pX x2), (3, pX x3), (4, iX x4)] → W p l e ({ frames := 8192, cells := BC, slots := BS, locals := 100000 } : Room) s m args below meth c H locs (uc) (us) Zq (F0 m 23 ls [])) : ∀ (x1 : Nat) (x2 : Nat) (x3 : Nat) (x4 : Int32) (g : GT) (ι : S) (uc us : Nat) (ad : Nat → Nat) (H : Heap) (locs : List Loc) (ls : Array Slot), P_X0_law_306 L xs BC BS Q k23 x1 x2 x3 x4 g ι uc us → CX p s m args c meth cL_law 7 (some .boolean) RX0 D dA ad A → PW D dA A s.heap ad (HS g ι) H locs → HA ad0 g0 ad g → LH ad ls 7 [(0, pX 140), (1, pX x1), (2, pX x2), (3, pX x3), (4, iX x4)] → W p l e ({ frames := 8192, cells := BC, slots := BS, locals := 100000 } : Room) s m args below meth c H locs (uc) (us) Zq (F0 m 306 ls []) := by
  intro x1 x2 x3 x4 g ι uc us ad H locs ls hF X hP hag hl
  unfold P_X0_law_306 at hF
  refine lv_goto (tgt := 1690) X.1 X.2.1 dL_law_306 (by decide) ?_
  refine ph_iinc (v := x4 + 6) (k := 4) X hl dL_law_1690 rfl rfl (by decide) rfl (fun ls hl => ?_)
  refine lv_goto (tgt := 23) X.1 X.2.1 dL_law_1693 (by decide) ?_
  exact hk23 _ _ _ _ _ _ _ _ _ _ _ _ hF X hP hag (lh_sub hl [1, 2, 3, 4, 0] rfl)
set_option maxHeartbeats 2000000 in
theorem w_X0_law_253 (hlt : l.stackTraces = false) {L : Nat} {xs : Nat → Int32} {Zq : State → Prop} (hsc : SC s A ad0 L xs) {BC BS : Nat} {Q : Int32 → GT → S → Prop} (hret : LRet p l e s m args below meth c D dA A L xs BC BS Q Zq) {k23 : Nat → Nat → Nat → Int32 → GT → S → Nat → Nat → Prop} (hk23 : ∀ (x1 : Nat) (x2 : Nat) (x3 : Nat) (x4 : Int32) (g : GT) (ι : S) (uc us : Nat) (ad : Nat → Nat) (H : Heap) (locs : List Loc) (ls : Array Slot), k23 x1 x2 x3 x4 g ι uc us → CX p s m args c meth cL_law 7 (some .boolean) RX0 D dA ad A → PW D dA A s.heap ad (HS g ι) H locs → HA ad0 g0 ad g → LH ad ls 7 [(0, pX 140), (1, pX x1), (2, pX x2), (3, pX x3), (4, iX x4)] → W p l e ({ frames := 8192, cells := BC, slots := BS, locals := 100000 } : Room) s m args below meth c H locs (uc) (us) Zq (F0 m 23 ls [])) : ∀ (x1 : Nat) (x2 : Nat) (x3 : Nat) (x4 : Int32) (g : GT) (ι : S) (uc us : Nat) (ad : Nat → Nat) (H : Heap) (locs : List Loc) (ls : Array Slot), P_X0_law_253 L xs BC BS Q k23 x1 x2 x3 x4 g ι uc us → CX p s m args c meth cL_law 7 (some .boolean) RX0 D dA ad A → PW D dA A s.heap ad (HS g ι) H locs → HA ad0 g0 ad g → LH ad ls 7 [(0, pX 140), (1, pX x1), (2, pX x2), (3, pX x3), (4, iX x4)] → W p l e ({ frames := 8192, cells := BC, slots := BS, locals := 100000 } : Room) s m args below meth c H locs (uc) (us) Zq (F0 m 253 ls []) := by
  intro x1 x2 x3 x4 g ι uc us ad H locs ls hF X hP hag hl
  unfold P_X0_law_253 at hF
  refine ph_aload_n (n := 1) X hl dL_law_253 rfl rfl ?_
  refine ph_aload_n (n := 0) X hl dL_law_254 rfl rfl ?_
  refine ph_iload (n := 4) X hl dL_law_255 rfl ?_
  refine lv_iconst (v := 1) X.1 X.2.1 dL_law_257 (by decide) ?_
  refine lv_iadd X.1 X.2.1 dL_law_258 ?_
  obtain ⟨hr20, hF⟩ := hF
  refine hl_sld X hP (sc_ad hsc (hag.2 140 (by omega))) hr20 (k := (x4 + 1).toNatClampNeg) rfl dL_law_259 ?_
  refine ph_aload_n (n := 3) X hl dL_law_260 rfl rfl ?_
  obtain ⟨hx21, hF⟩ := hF
  obtain ⟨hx22, hF⟩ := hF
  obtain ⟨hx23, hF⟩ := hF
  obtain ⟨b24, d25, hF⟩ := hF
  obtain ⟨hd26, hF⟩ := hF
  refine hl_callW [pX x1, iX (xs ((x4 + 1).toNatClampNeg)), pX x3] [] X hP (met_X0_bed l D dA ad _ _ hlt _ _ _ hF) (vx_cwSW 3 X.2.2.2.2.1 (lw_SW q1152 q1153 q97 q1154) rfl rfl rfl (by decide +kernel) ⟨Nat.le_of_ble_eq_true rfl, Nat.le_of_ble_eq_true rfl⟩) rfl hag hl (ltlp (ltk (by decide)) (ltlp hx23 (ltlp hx22 (ltlp hx21 (ltli ltln))))) ltsn (k8 := 0) (cs0 (k := 0)) (by decide) hd26 dL_law_261 rfl (fun r30 ad g27 ι28 H locs hF X hP hag he29 hl => ?_)
  show W p l e ({ frames := 8192, cells := BC, slots := BS, locals := 100000 } : Room) s m args below meth c H locs (uc + b24) (us + d25) Zq (F0 m 264 ls [.int r30])
  refine ph_istore X hl dL_law_264 (by decide) rfl (fun ls hl => ?_)
  refine ph_aload_n (n := 3) X hl dL_law_266 rfl rfl ?_
  refine ph_aload_n (n := 1) X hl dL_law_267 rfl rfl ?_
  refine ph_iload (n := 5) X hl dL_law_268 rfl ?_
  refine lv_iconst (v := 1) X.1 X.2.1 dL_law_270 (by decide) ?_
  refine lv_iadd X.1 X.2.1 dL_law_271 ?_
  obtain ⟨hr31, hF⟩ := hF
  refine hl_sld X hP (sc_ad hsc (hag.2 140 (by omega))) hr31 (k := (x4 + 1).toNatClampNeg) rfl dL_law_272 ?_
  obtain ⟨hT32, hF⟩ := hF
  refine hg_callTi [xs ((x4 + 1).toNatClampNeg)] X hP hT32 (met_X8_bed l D dA (adT ad x2) _ _ hF) (cwV 1 X.2.2.2.2.1 (lw_V q1998 q1999 q2000 q126 q2001) rfl rfl rfl (by decide +kernel) ⟨Nat.le_of_ble_eq_true rfl, Nat.le_of_ble_eq_true rfl⟩) rfl hl (k8 := 0) (cs0 (k := 0)) (by decide) hd26 dL_law_273 rfl (fun r33 σ34 H locs hF hP => ?_)
  show W p l e ({ frames := 8192, cells := BC, slots := BS, locals := 100000 } : Room) s m args below meth c H locs (uc + b24) (us + d25) Zq (F0 m 276 ls [.int r33])
  refine ph_istore X hl dL_law_276 (by decide) rfl (fun ls hl => ?_)
  refine ph_aload_n (n := 4) X hl dL_law_278 rfl rfl ?_
  obtain ⟨hT35, hF⟩ := hF
  refine hg_callTi [] X hP hT35 (met_X8_thrown l D dA (adT ad x2) _ _ hF) (cwV 0 X.2.2.2.2.1 (lw_V q1990 q1991 q1992 q126 q1993) rfl rfl rfl (by decide +kernel) ⟨Nat.le_of_ble_eq_true rfl, Nat.le_of_ble_eq_true rfl⟩) rfl hl (k8 := 0) (cs0 (k := 0)) (by decide) hd26 dL_law_279 rfl (fun r36 σ37 H locs hF hP => ?_)
  show W p l e ({ frames := 8192, cells := BC, slots := BS, locals := 100000 } : Room) s m args below meth c H locs (uc + b24) (us + d25) Zq (F0 m 282 ls [.int r36])
  refine ph_iload (n := 1) X hl dL_law_282 rfl ?_
  refine lv_icmp_eq (tgt := 289) X.1 X.2.1 dL_law_284 (by decide) (fun c42 => ?_) (fun c42 => ?_)
  · have hF := hF.1 c42
    refine ph_iload (n := 1) X hl dL_law_289 rfl ?_
    refine lv_if_ne (tgt := 306) X.1 X.2.1 dL_law_291 (by decide) (fun c41 => ?_) (fun c41 => ?_)
    · have hF := hF.1 c41
      exact w_X0_law_306 hlt hsc hret hk23 _ _ _ _ _ _ _ _ _ _ _ _ hF X hP hag (lh_sub hl [2, 3, 4, 5, 6] rfl)
    · have hF := hF.2 c41
      refine ph_aload_n (n := 5) X hl dL_law_294 rfl rfl ?_
      refine lv_iconst (v := 0) X.1 X.2.1 dL_law_295 (by decide) ?_
      obtain ⟨hm38, hF⟩ := hF
      obtain ⟨hr39, hF⟩ := hF
      refine hl_lald X hP hm38 hr39 (k := 0) (by decide) dL_law_296 ?_
      refine ph_iload (n := 0) X hl dL_law_297 rfl ?_
      refine lv_i2l X.1 X.2.1 dL_law_299 rfl ?_
      refine W.lcmp X.1 X.2.1 dL_law_300 ?_
      refine lv_if_eq (tgt := 306) X.1 X.2.1 dL_law_301 (by decide) (fun c40 => ?_) (fun c40 => ?_)
      · have hF := hF.1 c40
        exact w_X0_law_306 hlt hsc hret hk23 _ _ _ _ _ _ _ _ _ _ _ _ hF X hP hag (lh_sub hl [2, 3, 4, 5, 6] rfl)
      · have hF := hF.2 c40
        refine lv_iconst (v := 0) X.1 X.2.1 dL_law_304 (by decide) ?_
        exact hret _ _ _ _ _ _ _ _ _ _ dL_law_305 hF hd26 X hP
  · have hF := hF.2 c42
    refine lv_iconst (v := 0) X.1 X.2.1 dL_law_287 (by decide) ?_
    exact hret _ _ _ _ _ _ _ _ _ _ dL_law_288 hF hd26 X hP
set_option maxHeartbeats 2000000 in
theorem w_X0_law_309 (hlt : l.stackTraces = false) {L : Nat} {xs : Nat → Int32} {Zq : State → Prop} (hsc : SC s A ad0 L xs) {BC BS : Nat} {Q : Int32 → GT → S → Prop} (hret : LRet p l e s m args below meth c D dA A L xs BC BS Q Zq) {k23 : Nat → Nat → Nat → Int32 → GT → S → Nat → Nat → Prop} (hk23 : ∀ (x1 : Nat) (x2 : Nat) (x3 : Nat) (x4 : Int32) (g : GT) (ι : S) (uc us : Nat) (ad : Nat → Nat) (H : Heap) (locs : List Loc) (ls : Array Slot), k23 x1 x2 x3 x4 g ι uc us → CX p s m args c meth cL_law 7 (some .boolean) RX0 D dA ad A → PW D dA A s.heap ad (HS g ι) H locs → HA ad0 g0 ad g → LH ad ls 7 [(0, pX 140), (1, pX x1), (2, pX x2), (3, pX x3), (4, iX x4)] → W p l e ({ frames := 8192, cells := BC, slots := BS, locals := 100000 } : Room) s m args below meth c H locs (uc) (us) Zq (F0 m 23 ls [])) : ∀ (x1 : Nat) (x2 : Nat) (x3 : Nat) (x4 : Int32) (g : GT) (ι : S) (uc us : Nat) (ad : Nat → Nat) (H : Heap) (locs : List Loc) (ls : Array Slot), P_X0_law_309 L xs BC BS Q k23 x1 x2 x3 x4 g ι uc us → CX p s m args c meth cL_law 7 (some .boolean) RX0 D dA ad A → PW D dA A s.heap ad (HS g ι) H locs → HA ad0 g0 ad g → LH ad ls 7 [(0, pX 140), (1, pX x1), (2, pX x2), (3, pX x3), (4, iX x4)] → W p l e ({ frames := 8192, cells := BC, slots := BS, locals := 100000 } : Room) s m args below meth c H locs (uc) (us) Zq (F0 m 309 ls []) := by
  intro x1 x2 x3 x4 g ι uc us ad H locs ls hF X hP hag hl
  unfold P_X0_law_309 at hF
  refine ph_aload_n (n := 1) X hl dL_law_309 rfl rfl ?_
  obtain ⟨hd43, hF⟩ := hF
  obtain ⟨hm47, hF⟩ := hF
  refine cg_callVi 1 [] X hP hm47 (met_X1_fault l D dA ad g _ _ hF) (cwV 0 X.2.2.2.2.1 (lw_V q871 q872 q873 q98 q874) rfl rfl rfl (by decide +kernel) ⟨Nat.le_of_ble_eq_true rfl, Nat.le_of_ble_eq_true rfl⟩) rfl hl (k8 := 0) (cs0 (k := 0)) (by decide) hd43 dL_law_310 rfl (fun r44 ι45 H locs hF hP => ?_)
  refine ph_aload_n (n := 2) X hl dL_law_313 rfl rfl ?_
  obtain ⟨hT48, hF⟩ := hF
  refine hg_callTi [] X hP hT48 (met_X8_fault l D dA (adT ad x2) _ _ hF) (cwV 0 X.2.2.2.2.1 (lw_V q2120 q2121 q2122 q126 q2123) rfl rfl rfl (by decide +kernel) ⟨Nat.le_of_ble_eq_true rfl, Nat.le_of_ble_eq_true rfl⟩) rfl hl (k8 := 1) (csi (cs0 (k := 0))) (by decide) hd43 dL_law_314 rfl (fun r49 σ50 H locs hF hP => ?_)
  show W p l e ({ frames := 8192, cells := BC, slots := BS, locals := 100000 } : Room) s m args below meth c H locs (uc) (us) Zq (F0 m 317 ls [.int r49, .int r44])
  refine lv_icmp_eq (tgt := 1690) X.1 X.2.1 dL_law_317 (by decide) (fun c51 => ?_) (fun c51 => ?_)
  · have hF := hF.1 c51
    refine ph_iinc (v := x4 + 6) (k := 4) X hl dL_law_1690 rfl rfl (by decide) rfl (fun ls hl => ?_)
    refine lv_goto (tgt := 23) X.1 X.2.1 dL_law_1693 (by decide) ?_
    exact hk23 _ _ _ _ _ _ _ _ _ _ _ _ hF X hP hag (lh_sub hl [1, 2, 3, 4, 0] rfl)
  · have hF := hF.2 c51
    refine lv_iconst (v := 0) X.1 X.2.1 dL_law_320 (by decide) ?_
    exact hret _ _ _ _ _ _ _ _ _ _ dL_law_321 hF hd43 X hP
set_option maxHeartbeats 2000000 in
theorem w_X0_law_375 (hlt : l.stackTraces = false) {L : Nat} {xs : Nat → Int32} {Zq : State → Prop} (hsc : SC s A ad0 L xs) {BC BS : Nat} {Q : Int32 → GT → S → Prop} (hret : LRet p l e s m args below meth c D dA A L xs BC BS Q Zq) {k23 : Nat → Nat → Nat → Int32 → GT → S → Nat → Nat → Prop} (hk23 : ∀ (x1 : Nat) (x2 : Nat) (x3 : Nat) (x4 : Int32) (g : GT) (ι : S) (uc us : Nat) (ad : Nat → Nat) (H : Heap) (locs : List Loc) (ls : Array Slot), k23 x1 x2 x3 x4 g ι uc us → CX p s m args c meth cL_law 7 (some .boolean) RX0 D dA ad A → PW D dA A s.heap ad (HS g ι) H locs → HA ad0 g0 ad g → LH ad ls 7 [(0, pX 140), (1, pX x1), (2, pX x2), (3, pX x3), (4, iX x4)] → W p l e ({ frames := 8192, cells := BC, slots := BS, locals := 100000 } : Room) s m args below meth c H locs (uc) (us) Zq (F0 m 23 ls [])) : ∀ (x1 : Nat) (x2 : Nat) (x3 : Nat) (x4 : Int32) (g : GT) (ι : S) (uc us : Nat) (ad : Nat → Nat) (H : Heap) (locs : List Loc) (ls : Array Slot), P_X0_law_375 L xs BC BS Q k23 x1 x2 x3 x4 g ι uc us → CX p s m args c meth cL_law 7 (some .boolean) RX0 D dA ad A → PW D dA A s.heap ad (HS g ι) H locs → HA ad0 g0 ad g → LH ad ls 7 [(0, pX 140), (1, pX x1), (2, pX x2), (3, pX x3), (4, iX x4)] → W p l e ({ frames := 8192, cells := BC, slots := BS, locals := 100000 } : Room) s m args below meth c H locs (uc) (us) Zq (F0 m 375 ls []) := by
  intro x1 x2 x3 x4 g ι uc us ad H locs ls hF X hP hag hl
  unfold P_X0_law_375 at hF
  refine lv_goto (tgt := 1690) X.1 X.2.1 dL_law_375 (by decide) ?_
  refine ph_iinc (v := x4 + 6) (k := 4) X hl dL_law_1690 rfl rfl (by decide) rfl (fun ls hl => ?_)
  refine lv_goto (tgt := 23) X.1 X.2.1 dL_law_1693 (by decide) ?_
  exact hk23 _ _ _ _ _ _ _ _ _ _ _ _ hF X hP hag (lh_sub hl [1, 2, 3, 4, 0] rfl)
set_option maxHeartbeats 2000000 in
theorem w_X0_law_322 (hlt : l.stackTraces = false) {L : Nat} {xs : Nat → Int32} {Zq : State → Prop} (hsc : SC s A ad0 L xs) {BC BS : Nat} {Q : Int32 → GT → S → Prop} (hret : LRet p l e s m args below meth c D dA A L xs BC BS Q Zq) {k23 : Nat → Nat → Nat → Int32 → GT → S → Nat → Nat → Prop} (hk23 : ∀ (x1 : Nat) (x2 : Nat) (x3 : Nat) (x4 : Int32) (g : GT) (ι : S) (uc us : Nat) (ad : Nat → Nat) (H : Heap) (locs : List Loc) (ls : Array Slot), k23 x1 x2 x3 x4 g ι uc us → CX p s m args c meth cL_law 7 (some .boolean) RX0 D dA ad A → PW D dA A s.heap ad (HS g ι) H locs → HA ad0 g0 ad g → LH ad ls 7 [(0, pX 140), (1, pX x1), (2, pX x2), (3, pX x3), (4, iX x4)] → W p l e ({ frames := 8192, cells := BC, slots := BS, locals := 100000 } : Room) s m args below meth c H locs (uc) (us) Zq (F0 m 23 ls [])) : ∀ (x1 : Nat) (x2 : Nat) (x3 : Nat) (x4 : Int32) (g : GT) (ι : S) (uc us : Nat) (ad : Nat → Nat) (H : Heap) (locs : List Loc) (ls : Array Slot), P_X0_law_322 L xs BC BS Q k23 x1 x2 x3 x4 g ι uc us → CX p s m args c meth cL_law 7 (some .boolean) RX0 D dA ad A → PW D dA A s.heap ad (HS g ι) H locs → HA ad0 g0 ad g → LH ad ls 7 [(0, pX 140), (1, pX x1), (2, pX x2), (3, pX x3), (4, iX x4)] → W p l e ({ frames := 8192, cells := BC, slots := BS, locals := 100000 } : Room) s m args below meth c H locs (uc) (us) Zq (F0 m 322 ls []) := by
  intro x1 x2 x3 x4 g ι uc us ad H locs ls hF X hP hag hl
  unfold P_X0_law_322 at hF
  refine ph_aload_n (n := 1) X hl dL_law_322 rfl rfl ?_
  refine ph_aload_n (n := 0) X hl dL_law_323 rfl rfl ?_
  refine ph_iload (n := 4) X hl dL_law_324 rfl ?_
  refine lv_iconst (v := 1) X.1 X.2.1 dL_law_326 (by decide) ?_
  refine lv_iadd X.1 X.2.1 dL_law_327 ?_
  obtain ⟨hr52, hF⟩ := hF
  refine hl_sld X hP (sc_ad hsc (hag.2 140 (by omega))) hr52 (k := (x4 + 1).toNatClampNeg) rfl dL_law_328 ?_
  refine ph_aload_n (n := 3) X hl dL_law_329 rfl rfl ?_
  obtain ⟨hx53, hF⟩ := hF
  obtain ⟨hx54, hF⟩ := hF
  obtain ⟨hx55, hF⟩ := hF
  obtain ⟨hd56, hF⟩ := hF
  refine hl_callW [pX x1, iX (xs ((x4 + 1).toNatClampNeg)), pX x3] [] X hP (met_X0_count l D dA ad hlt _ _ _ hF) (vx_cwSW 3 X.2.2.2.2.1 (lw_SW q1548 q1549 q97 q1550) rfl rfl rfl (by decide +kernel) ⟨Nat.le_of_ble_eq_true rfl, Nat.le_of_ble_eq_true rfl⟩) rfl hag hl (ltlp (ltk (by decide)) (ltlp hx55 (ltlp hx54 (ltlp hx53 (ltli ltln))))) ltsn (k8 := 0) (cs0 (k := 0)) (by decide) hd56 dL_law_330 rfl (fun r60 ad g57 ι58 H locs hF X hP hag he59 hl => ?_)
  show W p l e ({ frames := 8192, cells := BC, slots := BS, locals := 100000 } : Room) s m args below meth c H locs (uc + 1) (us + 6) Zq (F0 m 333 ls [.int r60])
  refine ph_istore X hl dL_law_333 (by decide) rfl (fun ls hl => ?_)
  refine ph_aload_n (n := 3) X hl dL_law_335 rfl rfl ?_
  refine ph_aload_n (n := 1) X hl dL_law_336 rfl rfl ?_
  refine ph_iload (n := 5) X hl dL_law_337 rfl ?_
  refine lv_iconst (v := 1) X.1 X.2.1 dL_law_339 (by decide) ?_
  refine lv_iadd X.1 X.2.1 dL_law_340 ?_
  obtain ⟨hr61, hF⟩ := hF
  refine hl_sld X hP (sc_ad hsc (hag.2 140 (by omega))) hr61 (k := (x4 + 1).toNatClampNeg) rfl dL_law_341 ?_
  obtain ⟨hT62, hF⟩ := hF
  refine hg_callTi [xs ((x4 + 1).toNatClampNeg)] X hP hT62 (met_X8_count l D dA (adT ad x2) _ _ hF) (cwV 1 X.2.2.2.2.1 (lw_V q2124 q2125 q2126 q126 q2127) rfl rfl rfl (by decide +kernel) ⟨Nat.le_of_ble_eq_true rfl, Nat.le_of_ble_eq_true rfl⟩) rfl hl (k8 := 0) (cs0 (k := 0)) (by decide) hd56 dL_law_342 rfl (fun r63 σ64 H locs hF hP => ?_)
  show W p l e ({ frames := 8192, cells := BC, slots := BS, locals := 100000 } : Room) s m args below meth c H locs (uc + 1) (us + 6) Zq (F0 m 345 ls [.int r63])
  refine ph_istore X hl dL_law_345 (by decide) rfl (fun ls hl => ?_)
  refine ph_aload_n (n := 4) X hl dL_law_347 rfl rfl ?_
  obtain ⟨hT65, hF⟩ := hF
  refine hg_callTi [] X hP hT65 (met_X8_thrown l D dA (adT ad x2) _ _ hF) (cwV 0 X.2.2.2.2.1 (lw_V q1990 q1991 q1992 q126 q1993) rfl rfl rfl (by decide +kernel) ⟨Nat.le_of_ble_eq_true rfl, Nat.le_of_ble_eq_true rfl⟩) rfl hl (k8 := 0) (cs0 (k := 0)) (by decide) hd56 dL_law_348 rfl (fun r66 σ67 H locs hF hP => ?_)
  show W p l e ({ frames := 8192, cells := BC, slots := BS, locals := 100000 } : Room) s m args below meth c H locs (uc + 1) (us + 6) Zq (F0 m 351 ls [.int r66])
  refine ph_iload (n := 1) X hl dL_law_351 rfl ?_
  refine lv_icmp_eq (tgt := 358) X.1 X.2.1 dL_law_353 (by decide) (fun c72 => ?_) (fun c72 => ?_)
  · have hF := hF.1 c72
    refine ph_iload (n := 1) X hl dL_law_358 rfl ?_
    refine lv_if_ne (tgt := 375) X.1 X.2.1 dL_law_360 (by decide) (fun c71 => ?_) (fun c71 => ?_)
    · have hF := hF.1 c71
      exact w_X0_law_375 hlt hsc hret hk23 _ _ _ _ _ _ _ _ _ _ _ _ hF X hP hag (lh_sub hl [2, 3, 4, 5, 6] rfl)
    · have hF := hF.2 c71
      refine ph_aload_n (n := 5) X hl dL_law_363 rfl rfl ?_
      refine lv_iconst (v := 0) X.1 X.2.1 dL_law_364 (by decide) ?_
      obtain ⟨hm68, hF⟩ := hF
      obtain ⟨hr69, hF⟩ := hF
      refine hl_lald X hP hm68 hr69 (k := 0) (by decide) dL_law_365 ?_
      refine ph_iload (n := 0) X hl dL_law_366 rfl ?_
      refine lv_i2l X.1 X.2.1 dL_law_368 rfl ?_
      refine W.lcmp X.1 X.2.1 dL_law_369 ?_
      refine lv_if_eq (tgt := 375) X.1 X.2.1 dL_law_370 (by decide) (fun c70 => ?_) (fun c70 => ?_)
      · have hF := hF.1 c70
        exact w_X0_law_375 hlt hsc hret hk23 _ _ _ _ _ _ _ _ _ _ _ _ hF X hP hag (lh_sub hl [2, 3, 4, 5, 6] rfl)
      · have hF := hF.2 c70
        refine lv_iconst (v := 0) X.1 X.2.1 dL_law_373 (by decide) ?_
        exact hret _ _ _ _ _ _ _ _ _ _ dL_law_374 hF hd56 X hP
  · have hF := hF.2 c72
    refine lv_iconst (v := 0) X.1 X.2.1 dL_law_356 (by decide) ?_
    exact hret _ _ _ _ _ _ _ _ _ _ dL_law_357 hF hd56 X hP
set_option maxHeartbeats 2000000 in
theorem w_X0_law_443 (hlt : l.stackTraces = false) {L : Nat} {xs : Nat → Int32} {Zq : State → Prop} (hsc : SC s A ad0 L xs) {BC BS : Nat} {Q : Int32 → GT → S → Prop} (hret : LRet p l e s m args below meth c D dA A L xs BC BS Q Zq) {k23 : Nat → Nat → Nat → Int32 → GT → S → Nat → Nat → Prop} (hk23 : ∀ (x1 : Nat) (x2 : Nat) (x3 : Nat) (x4 : Int32) (g : GT) (ι : S) (uc us : Nat) (ad : Nat → Nat) (H : Heap) (locs : List Loc) (ls : Array Slot), k23 x1 x2 x3 x4 g ι uc us → CX p s m args c meth cL_law 7 (some .boolean) RX0 D dA ad A → PW D dA A s.heap ad (HS g ι) H locs → HA ad0 g0 ad g → LH ad ls 7 [(0, pX 140), (1, pX x1), (2, pX x2), (3, pX x3), (4, iX x4)] → W p l e ({ frames := 8192, cells := BC, slots := BS, locals := 100000 } : Room) s m args below meth c H locs (uc) (us) Zq (F0 m 23 ls [])) : ∀ (x1 : Nat) (x2 : Nat) (x3 : Nat) (x4 : Int32) (g : GT) (ι : S) (uc us : Nat) (ad : Nat → Nat) (H : Heap) (locs : List Loc) (ls : Array Slot), P_X0_law_443 L xs BC BS Q k23 x1 x2 x3 x4 g ι uc us → CX p s m args c meth cL_law 7 (some .boolean) RX0 D dA ad A → PW D dA A s.heap ad (HS g ι) H locs → HA ad0 g0 ad g → LH ad ls 7 [(0, pX 140), (1, pX x1), (2, pX x2), (3, pX x3), (4, iX x4)] → W p l e ({ frames := 8192, cells := BC, slots := BS, locals := 100000 } : Room) s m args below meth c H locs (uc) (us) Zq (F0 m 443 ls []) := by
  intro x1 x2 x3 x4 g ι uc us ad H locs ls hF X hP hag hl
  unfold P_X0_law_443 at hF
  refine lv_goto (tgt := 1690) X.1 X.2.1 dL_law_443 (by decide) ?_
  refine ph_iinc (v := x4 + 6) (k := 4) X hl dL_law_1690 rfl rfl (by decide) rfl (fun ls hl => ?_)
  refine lv_goto (tgt := 23) X.1 X.2.1 dL_law_1693 (by decide) ?_
  exact hk23 _ _ _ _ _ _ _ _ _ _ _ _ hF X hP hag (lh_sub hl [1, 2, 3, 4, 0] rfl)
set_option maxHeartbeats 2000000 in
theorem w_X0_law_378 (hlt : l.stackTraces = false) {L : Nat} {xs : Nat → Int32} {Zq : State → Prop} (hsc : SC s A ad0 L xs) {BC BS : Nat} {Q : Int32 → GT → S → Prop} (hret : LRet p l e s m args below meth c D dA A L xs BC BS Q Zq) {k23 : Nat → Nat → Nat → Int32 → GT → S → Nat → Nat → Prop} (hk23 : ∀ (x1 : Nat) (x2 : Nat) (x3 : Nat) (x4 : Int32) (g : GT) (ι : S) (uc us : Nat) (ad : Nat → Nat) (H : Heap) (locs : List Loc) (ls : Array Slot), k23 x1 x2 x3 x4 g ι uc us → CX p s m args c meth cL_law 7 (some .boolean) RX0 D dA ad A → PW D dA A s.heap ad (HS g ι) H locs → HA ad0 g0 ad g → LH ad ls 7 [(0, pX 140), (1, pX x1), (2, pX x2), (3, pX x3), (4, iX x4)] → W p l e ({ frames := 8192, cells := BC, slots := BS, locals := 100000 } : Room) s m args below meth c H locs (uc) (us) Zq (F0 m 23 ls [])) : ∀ (x1 : Nat) (x2 : Nat) (x3 : Nat) (x4 : Int32) (g : GT) (ι : S) (uc us : Nat) (ad : Nat → Nat) (H : Heap) (locs : List Loc) (ls : Array Slot), P_X0_law_378 L xs BC BS Q k23 x1 x2 x3 x4 g ι uc us → CX p s m args c meth cL_law 7 (some .boolean) RX0 D dA ad A → PW D dA A s.heap ad (HS g ι) H locs → HA ad0 g0 ad g → LH ad ls 7 [(0, pX 140), (1, pX x1), (2, pX x2), (3, pX x3), (4, iX x4)] → W p l e ({ frames := 8192, cells := BC, slots := BS, locals := 100000 } : Room) s m args below meth c H locs (uc) (us) Zq (F0 m 378 ls []) := by
  intro x1 x2 x3 x4 g ι uc us ad H locs ls hF X hP hag hl
  unfold P_X0_law_378 at hF
  refine ph_aload_n (n := 1) X hl dL_law_378 rfl rfl ?_
  refine ph_aload_n (n := 0) X hl dL_law_379 rfl rfl ?_
  refine ph_iload (n := 4) X hl dL_law_380 rfl ?_
  refine lv_iconst (v := 1) X.1 X.2.1 dL_law_382 (by decide) ?_
  refine lv_iadd X.1 X.2.1 dL_law_383 ?_
  obtain ⟨hr73, hF⟩ := hF
  refine hl_sld X hP (sc_ad hsc (hag.2 140 (by omega))) hr73 (k := (x4 + 1).toNatClampNeg) rfl dL_law_384 ?_
  refine ph_aload_n (n := 0) X hl dL_law_385 rfl rfl ?_
  refine ph_iload (n := 4) X hl dL_law_386 rfl ?_
  refine lv_iconst (v := 2) X.1 X.2.1 dL_law_388 (by decide) ?_
  refine lv_iadd X.1 X.2.1 dL_law_389 ?_
  obtain ⟨hr74, hF⟩ := hF
  refine hl_sld X hP (sc_ad hsc (hag.2 140 (by omega))) hr74 (k := (x4 + 2).toNatClampNeg) rfl dL_law_390 ?_
  refine ph_aload_n (n := 3) X hl dL_law_391 rfl rfl ?_
  obtain ⟨hx75, hF⟩ := hF
  obtain ⟨hx76, hF⟩ := hF
  obtain ⟨hx77, hF⟩ := hF
  obtain ⟨hd78, hF⟩ := hF
  refine hl_callW [pX x1, iX (xs ((x4 + 1).toNatClampNeg)), iX (xs ((x4 + 2).toNatClampNeg)), pX x3] [] X hP (met_X0_sleeper l D dA ad hlt _ _ _ hF) (vx_cwSW 4 X.2.2.2.2.1 (lw_SW q1574 q1575 q97 q1576) rfl rfl rfl (by decide +kernel) ⟨Nat.le_of_ble_eq_true rfl, Nat.le_of_ble_eq_true rfl⟩) rfl hag hl (ltlp (ltk (by decide)) (ltlp hx77 (ltlp hx76 (ltlp hx75 (ltli ltln))))) ltsn (k8 := 0) (cs0 (k := 0)) (by decide) hd78 dL_law_392 rfl (fun r82 ad g79 ι80 H locs hF X hP hag he81 hl => ?_)
  show W p l e ({ frames := 8192, cells := BC, slots := BS, locals := 100000 } : Room) s m args below meth c H locs (uc + 2) (us + 12) Zq (F0 m 395 ls [.int r82])
  refine ph_istore X hl dL_law_395 (by decide) rfl (fun ls hl => ?_)
  refine ph_aload_n (n := 3) X hl dL_law_397 rfl rfl ?_
  refine ph_aload_n (n := 1) X hl dL_law_398 rfl rfl ?_
  refine ph_iload (n := 5) X hl dL_law_399 rfl ?_
  refine lv_iconst (v := 1) X.1 X.2.1 dL_law_401 (by decide) ?_
  refine lv_iadd X.1 X.2.1 dL_law_402 ?_
  obtain ⟨hr83, hF⟩ := hF
  refine hl_sld X hP (sc_ad hsc (hag.2 140 (by omega))) hr83 (k := (x4 + 1).toNatClampNeg) rfl dL_law_403 ?_
  refine ph_aload_n (n := 1) X hl dL_law_404 rfl rfl ?_
  refine ph_iload (n := 5) X hl dL_law_405 rfl ?_
  refine lv_iconst (v := 2) X.1 X.2.1 dL_law_407 (by decide) ?_
  refine lv_iadd X.1 X.2.1 dL_law_408 ?_
  obtain ⟨hr84, hF⟩ := hF
  refine hl_sld X hP (sc_ad hsc (hag.2 140 (by omega))) hr84 (k := (x4 + 2).toNatClampNeg) rfl dL_law_409 ?_
  obtain ⟨hT85, hF⟩ := hF
  refine hg_callTi [xs ((x4 + 1).toNatClampNeg), xs ((x4 + 2).toNatClampNeg)] X hP hT85 (met_X8_sleeper l D dA (adT ad x2) _ _ hF) (cwV 2 X.2.2.2.2.1 (lw_V q2136 q2137 q2138 q126 q2139) rfl rfl rfl (by decide +kernel) ⟨Nat.le_of_ble_eq_true rfl, Nat.le_of_ble_eq_true rfl⟩) rfl hl (k8 := 0) (cs0 (k := 0)) (by decide) hd78 dL_law_410 rfl (fun r86 σ87 H locs hF hP => ?_)
  show W p l e ({ frames := 8192, cells := BC, slots := BS, locals := 100000 } : Room) s m args below meth c H locs (uc + 2) (us + 12) Zq (F0 m 413 ls [.int r86])
  refine ph_istore X hl dL_law_413 (by decide) rfl (fun ls hl => ?_)
  refine ph_aload_n (n := 4) X hl dL_law_415 rfl rfl ?_
  obtain ⟨hT88, hF⟩ := hF
  refine hg_callTi [] X hP hT88 (met_X8_thrown l D dA (adT ad x2) _ _ hF) (cwV 0 X.2.2.2.2.1 (lw_V q1990 q1991 q1992 q126 q1993) rfl rfl rfl (by decide +kernel) ⟨Nat.le_of_ble_eq_true rfl, Nat.le_of_ble_eq_true rfl⟩) rfl hl (k8 := 0) (cs0 (k := 0)) (by decide) hd78 dL_law_416 rfl (fun r89 σ90 H locs hF hP => ?_)
  show W p l e ({ frames := 8192, cells := BC, slots := BS, locals := 100000 } : Room) s m args below meth c H locs (uc + 2) (us + 12) Zq (F0 m 419 ls [.int r89])
  refine ph_iload (n := 1) X hl dL_law_419 rfl ?_
  refine lv_icmp_eq (tgt := 426) X.1 X.2.1 dL_law_421 (by decide) (fun c95 => ?_) (fun c95 => ?_)
  · have hF := hF.1 c95
    refine ph_iload (n := 1) X hl dL_law_426 rfl ?_
    refine lv_if_ne (tgt := 443) X.1 X.2.1 dL_law_428 (by decide) (fun c94 => ?_) (fun c94 => ?_)
    · have hF := hF.1 c94
      exact w_X0_law_443 hlt hsc hret hk23 _ _ _ _ _ _ _ _ _ _ _ _ hF X hP hag (lh_sub hl [2, 3, 4, 5, 6] rfl)
    · have hF := hF.2 c94
      refine ph_aload_n (n := 5) X hl dL_law_431 rfl rfl ?_
      refine lv_iconst (v := 0) X.1 X.2.1 dL_law_432 (by decide) ?_
      obtain ⟨hm91, hF⟩ := hF
      obtain ⟨hr92, hF⟩ := hF
      refine hl_lald X hP hm91 hr92 (k := 0) (by decide) dL_law_433 ?_
      refine ph_iload (n := 0) X hl dL_law_434 rfl ?_
      refine lv_i2l X.1 X.2.1 dL_law_436 rfl ?_
      refine W.lcmp X.1 X.2.1 dL_law_437 ?_
      refine lv_if_eq (tgt := 443) X.1 X.2.1 dL_law_438 (by decide) (fun c93 => ?_) (fun c93 => ?_)
      · have hF := hF.1 c93
        exact w_X0_law_443 hlt hsc hret hk23 _ _ _ _ _ _ _ _ _ _ _ _ hF X hP hag (lh_sub hl [2, 3, 4, 5, 6] rfl)
      · have hF := hF.2 c93
        refine lv_iconst (v := 0) X.1 X.2.1 dL_law_441 (by decide) ?_
        exact hret _ _ _ _ _ _ _ _ _ _ dL_law_442 hF hd78 X hP
  · have hF := hF.2 c95
    refine lv_iconst (v := 0) X.1 X.2.1 dL_law_424 (by decide) ?_
    exact hret _ _ _ _ _ _ _ _ _ _ dL_law_425 hF hd78 X hP
set_option maxHeartbeats 2000000 in
theorem w_X0_law_446 (hlt : l.stackTraces = false) {L : Nat} {xs : Nat → Int32} {Zq : State → Prop} (hsc : SC s A ad0 L xs) {BC BS : Nat} {Q : Int32 → GT → S → Prop} (hret : LRet p l e s m args below meth c D dA A L xs BC BS Q Zq) {k23 : Nat → Nat → Nat → Int32 → GT → S → Nat → Nat → Prop} (hk23 : ∀ (x1 : Nat) (x2 : Nat) (x3 : Nat) (x4 : Int32) (g : GT) (ι : S) (uc us : Nat) (ad : Nat → Nat) (H : Heap) (locs : List Loc) (ls : Array Slot), k23 x1 x2 x3 x4 g ι uc us → CX p s m args c meth cL_law 7 (some .boolean) RX0 D dA ad A → PW D dA A s.heap ad (HS g ι) H locs → HA ad0 g0 ad g → LH ad ls 7 [(0, pX 140), (1, pX x1), (2, pX x2), (3, pX x3), (4, iX x4)] → W p l e ({ frames := 8192, cells := BC, slots := BS, locals := 100000 } : Room) s m args below meth c H locs (uc) (us) Zq (F0 m 23 ls [])) : ∀ (x1 : Nat) (x2 : Nat) (x3 : Nat) (x4 : Int32) (g : GT) (ι : S) (uc us : Nat) (ad : Nat → Nat) (H : Heap) (locs : List Loc) (ls : Array Slot), P_X0_law_446 L xs BC BS Q k23 x1 x2 x3 x4 g ι uc us → CX p s m args c meth cL_law 7 (some .boolean) RX0 D dA ad A → PW D dA A s.heap ad (HS g ι) H locs → HA ad0 g0 ad g → LH ad ls 7 [(0, pX 140), (1, pX x1), (2, pX x2), (3, pX x3), (4, iX x4)] → W p l e ({ frames := 8192, cells := BC, slots := BS, locals := 100000 } : Room) s m args below meth c H locs (uc) (us) Zq (F0 m 446 ls []) := by
  intro x1 x2 x3 x4 g ι uc us ad H locs ls hF X hP hag hl
  unfold P_X0_law_446 at hF
  refine ph_aload_n (n := 1) X hl dL_law_446 rfl rfl ?_
  refine ph_aload_n (n := 0) X hl dL_law_447 rfl rfl ?_
  refine ph_iload (n := 4) X hl dL_law_448 rfl ?_
  refine lv_iconst (v := 1) X.1 X.2.1 dL_law_450 (by decide) ?_
  refine lv_iadd X.1 X.2.1 dL_law_451 ?_
  obtain ⟨hr96, hF⟩ := hF
  refine hl_sld X hP (sc_ad hsc (hag.2 140 (by omega))) hr96 (k := (x4 + 1).toNatClampNeg) rfl dL_law_452 ?_
  refine ph_aload_n (n := 0) X hl dL_law_453 rfl rfl ?_
  refine ph_iload (n := 4) X hl dL_law_454 rfl ?_
  refine lv_iconst (v := 2) X.1 X.2.1 dL_law_456 (by decide) ?_
  refine lv_iadd X.1 X.2.1 dL_law_457 ?_
  obtain ⟨hr97, hF⟩ := hF
  refine hl_sld X hP (sc_ad hsc (hag.2 140 (by omega))) hr97 (k := (x4 + 2).toNatClampNeg) rfl dL_law_458 ?_
  obtain ⟨hx98, hF⟩ := hF
  obtain ⟨hx99, hF⟩ := hF
  obtain ⟨hx100, hF⟩ := hF
  obtain ⟨b101, d102, hF⟩ := hF
  obtain ⟨hd103, hF⟩ := hF
  obtain ⟨hm115, hF⟩ := hF
  refine hg_callVi 1 [iX (xs ((x4 + 1).toNatClampNeg)), iX (xs ((x4 + 2).toNatClampNeg))] [] X hP hm115 (met_X1_swap l D dA ad _ _ _ _ _ hF) (cwV 2 X.2.2.2.2.1 (lw_V q875 q876 q877 q98 q878) rfl rfl rfl (by decide +kernel) ⟨Nat.le_of_ble_eq_true rfl, Nat.le_of_ble_eq_true rfl⟩) rfl hag hl (ltlp (ltk (by decide)) (ltlp hx100 (ltlp hx99 (ltlp hx98 (ltli ltln))))) ltsn (k8 := 0) (cs0 (k := 0)) (by decide) hd103 dL_law_459 rfl (fun r107 ad g104 ι105 H locs hF X hP hag he106 hl => ?_)
  show W p l e ({ frames := 8192, cells := BC, slots := BS, locals := 100000 } : Room) s m args below meth c H locs (uc + b101) (us + d102) Zq (F0 m 462 ls [.int r107])
  refine ph_aload_n (n := 2) X hl dL_law_462 rfl rfl ?_
  refine ph_aload_n (n := 0) X hl dL_law_463 rfl rfl ?_
  refine ph_iload (n := 4) X hl dL_law_464 rfl ?_
  refine lv_iconst (v := 1) X.1 X.2.1 dL_law_466 (by decide) ?_
  refine lv_iadd X.1 X.2.1 dL_law_467 ?_
  obtain ⟨hr109, hF⟩ := hF
  refine hl_sld X hP (sc_ad hsc (hag.2 140 (by omega))) hr109 (k := (x4 + 1).toNatClampNeg) rfl dL_law_468 ?_
  refine ph_aload_n (n := 0) X hl dL_law_469 rfl rfl ?_
  refine ph_iload (n := 4) X hl dL_law_470 rfl ?_
  refine lv_iconst (v := 2) X.1 X.2.1 dL_law_472 (by decide) ?_
  refine lv_iadd X.1 X.2.1 dL_law_473 ?_
  obtain ⟨hr110, hF⟩ := hF
  refine hl_sld X hP (sc_ad hsc (hag.2 140 (by omega))) hr110 (k := (x4 + 2).toNatClampNeg) rfl dL_law_474 ?_
  obtain ⟨hT111, hF⟩ := hF
  refine hg_callTi [xs ((x4 + 1).toNatClampNeg), xs ((x4 + 2).toNatClampNeg)] X hP hT111 (met_X8_swap l D dA (adT ad x2) _ _ hF) (cwV 2 X.2.2.2.2.1 (lw_V q2151 q2152 q2153 q126 q2154) rfl rfl rfl (by decide +kernel) ⟨Nat.le_of_ble_eq_true rfl, Nat.le_of_ble_eq_true rfl⟩) rfl hl (k8 := 1) (csi (cs0 (k := 0))) (by decide) hd103 dL_law_475 rfl (fun r112 σ113 H locs hF hP => ?_)
  show W p l e ({ frames := 8192, cells := BC, slots := BS, locals := 100000 } : Room) s m args below meth c H locs (uc + b101) (us + d102) Zq (F0 m 478 ls [.int r112, .int r107])
  refine lv_icmp_eq (tgt := 1690) X.1 X.2.1 dL_law_478 (by decide) (fun c114 => ?_) (fun c114 => ?_)
  · have hF := hF.1 c114
    refine ph_iinc (v := x4 + 6) (k := 4) X hl dL_law_1690 rfl rfl (by decide) rfl (fun ls hl => ?_)
    refine lv_goto (tgt := 23) X.1 X.2.1 dL_law_1693 (by decide) ?_
    exact hk23 _ _ _ _ _ _ _ _ _ _ _ _ hF X hP hag (lh_sub hl [1, 2, 3, 4, 0] rfl)
  · have hF := hF.2 c114
    refine lv_iconst (v := 0) X.1 X.2.1 dL_law_481 (by decide) ?_
    exact hret _ _ _ _ _ _ _ _ _ _ dL_law_482 hF hd103 X hP
set_option maxHeartbeats 2000000 in
theorem w_X0_law_483 (hlt : l.stackTraces = false) {L : Nat} {xs : Nat → Int32} {Zq : State → Prop} (hsc : SC s A ad0 L xs) {BC BS : Nat} {Q : Int32 → GT → S → Prop} (hret : LRet p l e s m args below meth c D dA A L xs BC BS Q Zq) {k23 : Nat → Nat → Nat → Int32 → GT → S → Nat → Nat → Prop} (hk23 : ∀ (x1 : Nat) (x2 : Nat) (x3 : Nat) (x4 : Int32) (g : GT) (ι : S) (uc us : Nat) (ad : Nat → Nat) (H : Heap) (locs : List Loc) (ls : Array Slot), k23 x1 x2 x3 x4 g ι uc us → CX p s m args c meth cL_law 7 (some .boolean) RX0 D dA ad A → PW D dA A s.heap ad (HS g ι) H locs → HA ad0 g0 ad g → LH ad ls 7 [(0, pX 140), (1, pX x1), (2, pX x2), (3, pX x3), (4, iX x4)] → W p l e ({ frames := 8192, cells := BC, slots := BS, locals := 100000 } : Room) s m args below meth c H locs (uc) (us) Zq (F0 m 23 ls [])) : ∀ (x1 : Nat) (x2 : Nat) (x3 : Nat) (x4 : Int32) (g : GT) (ι : S) (uc us : Nat) (ad : Nat → Nat) (H : Heap) (locs : List Loc) (ls : Array Slot), P_X0_law_483 L xs BC BS Q k23 x1 x2 x3 x4 g ι uc us → CX p s m args c meth cL_law 7 (some .boolean) RX0 D dA ad A → PW D dA A s.heap ad (HS g ι) H locs → HA ad0 g0 ad g → LH ad ls 7 [(0, pX 140), (1, pX x1), (2, pX x2), (3, pX x3), (4, iX x4)] → W p l e ({ frames := 8192, cells := BC, slots := BS, locals := 100000 } : Room) s m args below meth c H locs (uc) (us) Zq (F0 m 483 ls []) := by
  intro x1 x2 x3 x4 g ι uc us ad H locs ls hF X hP hag hl
  unfold P_X0_law_483 at hF
  refine ph_aload_n (n := 1) X hl dL_law_483 rfl rfl ?_
  refine ph_aload_n (n := 0) X hl dL_law_484 rfl rfl ?_
  refine ph_iload (n := 4) X hl dL_law_485 rfl ?_
  refine lv_iconst (v := 1) X.1 X.2.1 dL_law_487 (by decide) ?_
  refine lv_iadd X.1 X.2.1 dL_law_488 ?_
  obtain ⟨hr116, hF⟩ := hF
  refine hl_sld X hP (sc_ad hsc (hag.2 140 (by omega))) hr116 (k := (x4 + 1).toNatClampNeg) rfl dL_law_489 ?_
  obtain ⟨hx117, hF⟩ := hF
  obtain ⟨hx118, hF⟩ := hF
  obtain ⟨hx119, hF⟩ := hF
  obtain ⟨b120, d121, hF⟩ := hF
  obtain ⟨hd122, hF⟩ := hF
  obtain ⟨hm133, hF⟩ := hF
  refine hg_callVi 1 [iX (xs ((x4 + 1).toNatClampNeg))] [] X hP hm133 (met_X1_side l D dA ad _ _ _ _ _ hF) (cwV 1 X.2.2.2.2.1 (lw_V q915 q916 q917 q98 q918) rfl rfl rfl (by decide +kernel) ⟨Nat.le_of_ble_eq_true rfl, Nat.le_of_ble_eq_true rfl⟩) rfl hag hl (ltlp (ltk (by decide)) (ltlp hx119 (ltlp hx118 (ltlp hx117 (ltli ltln))))) ltsn (k8 := 0) (cs0 (k := 0)) (by decide) hd122 dL_law_490 rfl (fun r126 ad g123 ι124 H locs hF X hP hag he125 hl => ?_)
  show W p l e ({ frames := 8192, cells := BC, slots := BS, locals := 100000 } : Room) s m args below meth c H locs (uc + b120) (us + d121) Zq (F0 m 493 ls [.int r126])
  refine ph_aload_n (n := 2) X hl dL_law_493 rfl rfl ?_
  refine ph_aload_n (n := 0) X hl dL_law_494 rfl rfl ?_
  refine ph_iload (n := 4) X hl dL_law_495 rfl ?_
  refine lv_iconst (v := 1) X.1 X.2.1 dL_law_497 (by decide) ?_
  refine lv_iadd X.1 X.2.1 dL_law_498 ?_
  obtain ⟨hr128, hF⟩ := hF
  refine hl_sld X hP (sc_ad hsc (hag.2 140 (by omega))) hr128 (k := (x4 + 1).toNatClampNeg) rfl dL_law_499 ?_
  obtain ⟨hT129, hF⟩ := hF
  refine hg_callTi [xs ((x4 + 1).toNatClampNeg)] X hP hT129 (met_X8_side l D dA (adT ad x2) _ _ hF) (cwV 1 X.2.2.2.2.1 (lw_V q2163 q2164 q2165 q126 q2166) rfl rfl rfl (by decide +kernel) ⟨Nat.le_of_ble_eq_true rfl, Nat.le_of_ble_eq_true rfl⟩) rfl hl (k8 := 1) (csi (cs0 (k := 0))) (by decide) hd122 dL_law_500 rfl (fun r130 σ131 H locs hF hP => ?_)
  show W p l e ({ frames := 8192, cells := BC, slots := BS, locals := 100000 } : Room) s m args below meth c H locs (uc + b120) (us + d121) Zq (F0 m 503 ls [.int r130, .int r126])
  refine lv_icmp_eq (tgt := 1690) X.1 X.2.1 dL_law_503 (by decide) (fun c132 => ?_) (fun c132 => ?_)
  · have hF := hF.1 c132
    refine ph_iinc (v := x4 + 6) (k := 4) X hl dL_law_1690 rfl rfl (by decide) rfl (fun ls hl => ?_)
    refine lv_goto (tgt := 23) X.1 X.2.1 dL_law_1693 (by decide) ?_
    exact hk23 _ _ _ _ _ _ _ _ _ _ _ _ hF X hP hag (lh_sub hl [1, 2, 3, 4, 0] rfl)
  · have hF := hF.2 c132
    refine lv_iconst (v := 0) X.1 X.2.1 dL_law_506 (by decide) ?_
    exact hret _ _ _ _ _ _ _ _ _ _ dL_law_507 hF hd122 X hP
set_option maxHeartbeats 2000000 in
theorem w_X0_law_573 (hlt : l.stackTraces = false) {L : Nat} {xs : Nat → Int32} {Zq : State → Prop} (hsc : SC s A ad0 L xs) {BC BS : Nat} {Q : Int32 → GT → S → Prop} (hret : LRet p l e s m args below meth c D dA A L xs BC BS Q Zq) {k23 : Nat → Nat → Nat → Int32 → GT → S → Nat → Nat → Prop} (hk23 : ∀ (x1 : Nat) (x2 : Nat) (x3 : Nat) (x4 : Int32) (g : GT) (ι : S) (uc us : Nat) (ad : Nat → Nat) (H : Heap) (locs : List Loc) (ls : Array Slot), k23 x1 x2 x3 x4 g ι uc us → CX p s m args c meth cL_law 7 (some .boolean) RX0 D dA ad A → PW D dA A s.heap ad (HS g ι) H locs → HA ad0 g0 ad g → LH ad ls 7 [(0, pX 140), (1, pX x1), (2, pX x2), (3, pX x3), (4, iX x4)] → W p l e ({ frames := 8192, cells := BC, slots := BS, locals := 100000 } : Room) s m args below meth c H locs (uc) (us) Zq (F0 m 23 ls [])) : ∀ (x1 : Nat) (x2 : Nat) (x3 : Nat) (x4 : Int32) (g : GT) (ι : S) (uc us : Nat) (ad : Nat → Nat) (H : Heap) (locs : List Loc) (ls : Array Slot), P_X0_law_573 L xs BC BS Q k23 x1 x2 x3 x4 g ι uc us → CX p s m args c meth cL_law 7 (some .boolean) RX0 D dA ad A → PW D dA A s.heap ad (HS g ι) H locs → HA ad0 g0 ad g → LH ad ls 7 [(0, pX 140), (1, pX x1), (2, pX x2), (3, pX x3), (4, iX x4)] → W p l e ({ frames := 8192, cells := BC, slots := BS, locals := 100000 } : Room) s m args below meth c H locs (uc) (us) Zq (F0 m 573 ls []) := by
  intro x1 x2 x3 x4 g ι uc us ad H locs ls hF X hP hag hl
  unfold P_X0_law_573 at hF
  refine lv_goto (tgt := 1690) X.1 X.2.1 dL_law_573 (by decide) ?_
  refine ph_iinc (v := x4 + 6) (k := 4) X hl dL_law_1690 rfl rfl (by decide) rfl (fun ls hl => ?_)
  refine lv_goto (tgt := 23) X.1 X.2.1 dL_law_1693 (by decide) ?_
  exact hk23 _ _ _ _ _ _ _ _ _ _ _ _ hF X hP hag (lh_sub hl [1, 2, 3, 4, 0] rfl)
set_option maxHeartbeats 2000000 in
theorem w_X0_law_508 (hlt : l.stackTraces = false) {L : Nat} {xs : Nat → Int32} {Zq : State → Prop} (hsc : SC s A ad0 L xs) {BC BS : Nat} {Q : Int32 → GT → S → Prop} (hret : LRet p l e s m args below meth c D dA A L xs BC BS Q Zq) {k23 : Nat → Nat → Nat → Int32 → GT → S → Nat → Nat → Prop} (hk23 : ∀ (x1 : Nat) (x2 : Nat) (x3 : Nat) (x4 : Int32) (g : GT) (ι : S) (uc us : Nat) (ad : Nat → Nat) (H : Heap) (locs : List Loc) (ls : Array Slot), k23 x1 x2 x3 x4 g ι uc us → CX p s m args c meth cL_law 7 (some .boolean) RX0 D dA ad A → PW D dA A s.heap ad (HS g ι) H locs → HA ad0 g0 ad g → LH ad ls 7 [(0, pX 140), (1, pX x1), (2, pX x2), (3, pX x3), (4, iX x4)] → W p l e ({ frames := 8192, cells := BC, slots := BS, locals := 100000 } : Room) s m args below meth c H locs (uc) (us) Zq (F0 m 23 ls [])) : ∀ (x1 : Nat) (x2 : Nat) (x3 : Nat) (x4 : Int32) (g : GT) (ι : S) (uc us : Nat) (ad : Nat → Nat) (H : Heap) (locs : List Loc) (ls : Array Slot), P_X0_law_508 L xs BC BS Q k23 x1 x2 x3 x4 g ι uc us → CX p s m args c meth cL_law 7 (some .boolean) RX0 D dA ad A → PW D dA A s.heap ad (HS g ι) H locs → HA ad0 g0 ad g → LH ad ls 7 [(0, pX 140), (1, pX x1), (2, pX x2), (3, pX x3), (4, iX x4)] → W p l e ({ frames := 8192, cells := BC, slots := BS, locals := 100000 } : Room) s m args below meth c H locs (uc) (us) Zq (F0 m 508 ls []) := by
  intro x1 x2 x3 x4 g ι uc us ad H locs ls hF X hP hag hl
  unfold P_X0_law_508 at hF
  refine ph_aload_n (n := 1) X hl dL_law_508 rfl rfl ?_
  refine ph_aload_n (n := 0) X hl dL_law_509 rfl rfl ?_
  refine ph_iload (n := 4) X hl dL_law_510 rfl ?_
  refine lv_iconst (v := 1) X.1 X.2.1 dL_law_512 (by decide) ?_
  refine lv_iadd X.1 X.2.1 dL_law_513 ?_
  obtain ⟨hr134, hF⟩ := hF
  refine hl_sld X hP (sc_ad hsc (hag.2 140 (by omega))) hr134 (k := (x4 + 1).toNatClampNeg) rfl dL_law_514 ?_
  refine ph_aload_n (n := 0) X hl dL_law_515 rfl rfl ?_
  refine ph_iload (n := 4) X hl dL_law_516 rfl ?_
  refine lv_iconst (v := 2) X.1 X.2.1 dL_law_518 (by decide) ?_
  refine lv_iadd X.1 X.2.1 dL_law_519 ?_
  obtain ⟨hr135, hF⟩ := hF
  refine hl_sld X hP (sc_ad hsc (hag.2 140 (by omega))) hr135 (k := (x4 + 2).toNatClampNeg) rfl dL_law_520 ?_
  refine ph_aload_n (n := 3) X hl dL_law_521 rfl rfl ?_
  obtain ⟨hx136, hF⟩ := hF
  obtain ⟨hx137, hF⟩ := hF
  obtain ⟨hx138, hF⟩ := hF
  obtain ⟨b139, d140, hF⟩ := hF
  obtain ⟨hd141, hF⟩ := hF
  refine hl_callW [pX x1, iX (xs ((x4 + 1).toNatClampNeg)), iX (xs ((x4 + 2).toNatClampNeg)), pX x3] [] X hP (met_X0_word l D dA ad _ _ hlt _ _ _ hF) (vx_cwSW 4 X.2.2.2.2.1 (lw_SW q1601 q1602 q97 q1603) rfl rfl rfl (by decide +kernel) ⟨Nat.le_of_ble_eq_true rfl, Nat.le_of_ble_eq_true rfl⟩) rfl hag hl (ltlp (ltk (by decide)) (ltlp hx138 (ltlp hx137 (ltlp hx136 (ltli ltln))))) ltsn (k8 := 0) (cs0 (k := 0)) (by decide) hd141 dL_law_522 rfl (fun r145 ad g142 ι143 H locs hF X hP hag he144 hl => ?_)
  show W p l e ({ frames := 8192, cells := BC, slots := BS, locals := 100000 } : Room) s m args below meth c H locs (uc + b139) (us + d140) Zq (F0 m 525 ls [.int r145])
  refine ph_istore X hl dL_law_525 (by decide) rfl (fun ls hl => ?_)
  refine ph_aload_n (n := 3) X hl dL_law_527 rfl rfl ?_
  refine ph_aload_n (n := 1) X hl dL_law_528 rfl rfl ?_
  refine ph_iload (n := 5) X hl dL_law_529 rfl ?_
  refine lv_iconst (v := 1) X.1 X.2.1 dL_law_531 (by decide) ?_
  refine lv_iadd X.1 X.2.1 dL_law_532 ?_
  obtain ⟨hr146, hF⟩ := hF
  refine hl_sld X hP (sc_ad hsc (hag.2 140 (by omega))) hr146 (k := (x4 + 1).toNatClampNeg) rfl dL_law_533 ?_
  refine ph_aload_n (n := 1) X hl dL_law_534 rfl rfl ?_
  refine ph_iload (n := 5) X hl dL_law_535 rfl ?_
  refine lv_iconst (v := 2) X.1 X.2.1 dL_law_537 (by decide) ?_
  refine lv_iadd X.1 X.2.1 dL_law_538 ?_
  obtain ⟨hr147, hF⟩ := hF
  refine hl_sld X hP (sc_ad hsc (hag.2 140 (by omega))) hr147 (k := (x4 + 2).toNatClampNeg) rfl dL_law_539 ?_
  obtain ⟨hT148, hF⟩ := hF
  refine hg_callTi [xs ((x4 + 1).toNatClampNeg), xs ((x4 + 2).toNatClampNeg)] X hP hT148 (met_X8_word l D dA (adT ad x2) _ _ hF) (cwV 2 X.2.2.2.2.1 (lw_V q2171 q2172 q2173 q126 q2174) rfl rfl rfl (by decide +kernel) ⟨Nat.le_of_ble_eq_true rfl, Nat.le_of_ble_eq_true rfl⟩) rfl hl (k8 := 0) (cs0 (k := 0)) (by decide) hd141 dL_law_540 rfl (fun r149 σ150 H locs hF hP => ?_)
  show W p l e ({ frames := 8192, cells := BC, slots := BS, locals := 100000 } : Room) s m args below meth c H locs (uc + b139) (us + d140) Zq (F0 m 543 ls [.int r149])
  refine ph_istore X hl dL_law_543 (by decide) rfl (fun ls hl => ?_)
  refine ph_aload_n (n := 4) X hl dL_law_545 rfl rfl ?_
  obtain ⟨hT151, hF⟩ := hF
  refine hg_callTi [] X hP hT151 (met_X8_thrown l D dA (adT ad x2) _ _ hF) (cwV 0 X.2.2.2.2.1 (lw_V q1990 q1991 q1992 q126 q1993) rfl rfl rfl (by decide +kernel) ⟨Nat.le_of_ble_eq_true rfl, Nat.le_of_ble_eq_true rfl⟩) rfl hl (k8 := 0) (cs0 (k := 0)) (by decide) hd141 dL_law_546 rfl (fun r152 σ153 H locs hF hP => ?_)
  show W p l e ({ frames := 8192, cells := BC, slots := BS, locals := 100000 } : Room) s m args below meth c H locs (uc + b139) (us + d140) Zq (F0 m 549 ls [.int r152])
  refine ph_iload (n := 1) X hl dL_law_549 rfl ?_
  refine lv_icmp_eq (tgt := 556) X.1 X.2.1 dL_law_551 (by decide) (fun c158 => ?_) (fun c158 => ?_)
  · have hF := hF.1 c158
    refine ph_iload (n := 1) X hl dL_law_556 rfl ?_
    refine lv_if_ne (tgt := 573) X.1 X.2.1 dL_law_558 (by decide) (fun c157 => ?_) (fun c157 => ?_)
    · have hF := hF.1 c157
      exact w_X0_law_573 hlt hsc hret hk23 _ _ _ _ _ _ _ _ _ _ _ _ hF X hP hag (lh_sub hl [2, 3, 4, 5, 6] rfl)
    · have hF := hF.2 c157
      refine ph_aload_n (n := 5) X hl dL_law_561 rfl rfl ?_
      refine lv_iconst (v := 0) X.1 X.2.1 dL_law_562 (by decide) ?_
      obtain ⟨hm154, hF⟩ := hF
      obtain ⟨hr155, hF⟩ := hF
      refine hl_lald X hP hm154 hr155 (k := 0) (by decide) dL_law_563 ?_
      refine ph_iload (n := 0) X hl dL_law_564 rfl ?_
      refine lv_i2l X.1 X.2.1 dL_law_566 rfl ?_
      refine W.lcmp X.1 X.2.1 dL_law_567 ?_
      refine lv_if_eq (tgt := 573) X.1 X.2.1 dL_law_568 (by decide) (fun c156 => ?_) (fun c156 => ?_)
      · have hF := hF.1 c156
        exact w_X0_law_573 hlt hsc hret hk23 _ _ _ _ _ _ _ _ _ _ _ _ hF X hP hag (lh_sub hl [2, 3, 4, 5, 6] rfl)
      · have hF := hF.2 c156
        refine lv_iconst (v := 0) X.1 X.2.1 dL_law_571 (by decide) ?_
        exact hret _ _ _ _ _ _ _ _ _ _ dL_law_572 hF hd141 X hP
  · have hF := hF.2 c158
    refine lv_iconst (v := 0) X.1 X.2.1 dL_law_554 (by decide) ?_
    exact hret _ _ _ _ _ _ _ _ _ _ dL_law_555 hF hd141 X hP
set_option maxHeartbeats 2000000 in
theorem w_X0_law_621 (hlt : l.stackTraces = false) {L : Nat} {xs : Nat → Int32} {Zq : State → Prop} (hsc : SC s A ad0 L xs) {BC BS : Nat} {Q : Int32 → GT → S → Prop} (hret : LRet p l e s m args below meth c D dA A L xs BC BS Q Zq) {k23 : Nat → Nat → Nat → Int32 → GT → S → Nat → Nat → Prop} (hk23 : ∀ (x1 : Nat) (x2 : Nat) (x3 : Nat) (x4 : Int32) (g : GT) (ι : S) (uc us : Nat) (ad : Nat → Nat) (H : Heap) (locs : List Loc) (ls : Array Slot), k23 x1 x2 x3 x4 g ι uc us → CX p s m args c meth cL_law 7 (some .boolean) RX0 D dA ad A → PW D dA A s.heap ad (HS g ι) H locs → HA ad0 g0 ad g → LH ad ls 7 [(0, pX 140), (1, pX x1), (2, pX x2), (3, pX x3), (4, iX x4)] → W p l e ({ frames := 8192, cells := BC, slots := BS, locals := 100000 } : Room) s m args below meth c H locs (uc) (us) Zq (F0 m 23 ls [])) : ∀ (y0 : Int32) (y1 : Nat) (y2 : Int32) (y3 : Int32) (x1 : Nat) (x2 : Nat) (x3 : Nat) (x4 : Int32) (g : GT) (ι : S) (uc us : Nat) (ad : Nat → Nat) (H : Heap) (locs : List Loc) (ls : Array Slot), P_X0_law_621 L xs BC BS Q k23 y0 y1 y2 y3 x1 x2 x3 x4 g ι uc us → CX p s m args c meth cL_law 7 (some .boolean) RX0 D dA ad A → PW D dA A s.heap ad (HS g ι) H locs → HA ad0 g0 ad g → LH ad ls 7 [(0, pX 140), (1, pX x1), (2, pX x2), (3, pX x3), (4, iX x4)] → W p l e ({ frames := 8192, cells := BC, slots := BS, locals := 100000 } : Room) s m args below meth c H locs (uc) (us) Zq (F0 m 621 ls [.int y3, .int y2, rv ad y1, .int y0]) := by
  intro y0 y1 y2 y3 x1 x2 x3 x4 g ι uc us ad H locs ls hF X hP hag hl
  unfold P_X0_law_621 at hF
  obtain ⟨hd159, hF⟩ := hF
  obtain ⟨hT160, hF⟩ := hF
  refine hg_callTi [y2, y3] X hP hT160 (met_X8_bolster l D dA (adT ad y1) _ _ hF) (cwV 2 X.2.2.2.2.1 (lw_V q2176 q2177 q2178 q126 q2179) rfl rfl rfl (by decide +kernel) ⟨Nat.le_of_ble_eq_true rfl, Nat.le_of_ble_eq_true rfl⟩) rfl hl (k8 := 1) (csi (cs0 (k := 0))) (by decide) hd159 dL_law_621 rfl (fun r161 σ162 H locs hF hP => ?_)
  show W p l e ({ frames := 8192, cells := BC, slots := BS, locals := 100000 } : Room) s m args below meth c H locs (uc) (us) Zq (F0 m 624 ls [.int r161, .int y0])
  refine lv_icmp_eq (tgt := 1690) X.1 X.2.1 dL_law_624 (by decide) (fun c163 => ?_) (fun c163 => ?_)
  · have hF := hF.1 c163
    refine ph_iinc (v := x4 + 6) (k := 4) X hl dL_law_1690 rfl rfl (by decide) rfl (fun ls hl => ?_)
    refine lv_goto (tgt := 23) X.1 X.2.1 dL_law_1693 (by decide) ?_
    exact hk23 _ _ _ _ _ _ _ _ _ _ _ _ hF X hP hag (lh_sub hl [1, 2, 3, 4, 0] rfl)
  · have hF := hF.2 c163
    refine lv_iconst (v := 0) X.1 X.2.1 dL_law_627 (by decide) ?_
    exact hret _ _ _ _ _ _ _ _ _ _ dL_law_628 hF hd159 X hP
set_option maxHeartbeats 2000000 in
theorem w_X0_law_597 (hlt : l.stackTraces = false) {L : Nat} {xs : Nat → Int32} {Zq : State → Prop} (hsc : SC s A ad0 L xs) {BC BS : Nat} {Q : Int32 → GT → S → Prop} (hret : LRet p l e s m args below meth c D dA A L xs BC BS Q Zq) {k23 : Nat → Nat → Nat → Int32 → GT → S → Nat → Nat → Prop} (hk23 : ∀ (x1 : Nat) (x2 : Nat) (x3 : Nat) (x4 : Int32) (g : GT) (ι : S) (uc us : Nat) (ad : Nat → Nat) (H : Heap) (locs : List Loc) (ls : Array Slot), k23 x1 x2 x3 x4 g ι uc us → CX p s m args c meth cL_law 7 (some .boolean) RX0 D dA ad A → PW D dA A s.heap ad (HS g ι) H locs → HA ad0 g0 ad g → LH ad ls 7 [(0, pX 140), (1, pX x1), (2, pX x2), (3, pX x3), (4, iX x4)] → W p l e ({ frames := 8192, cells := BC, slots := BS, locals := 100000 } : Room) s m args below meth c H locs (uc) (us) Zq (F0 m 23 ls [])) : ∀ (y0 : Nat) (y1 : Int32) (y2 : Int32) (x1 : Nat) (x2 : Nat) (x3 : Nat) (x4 : Int32) (g : GT) (ι : S) (uc us : Nat) (ad : Nat → Nat) (H : Heap) (locs : List Loc) (ls : Array Slot), P_X0_law_597 L xs BC BS Q k23 y0 y1 y2 x1 x2 x3 x4 g ι uc us → CX p s m args c meth cL_law 7 (some .boolean) RX0 D dA ad A → PW D dA A s.heap ad (HS g ι) H locs → HA ad0 g0 ad g → LH ad ls 7 [(0, pX 140), (1, pX x1), (2, pX x2), (3, pX x3), (4, iX x4)] → W p l e ({ frames := 8192, cells := BC, slots := BS, locals := 100000 } : Room) s m args below meth c H locs (uc) (us) Zq (F0 m 597 ls [.int y2, .int y1, rv ad y0]) := by
  intro y0 y1 y2 x1 x2 x3 x4 g ι uc us ad H locs ls hF X hP hag hl
  unfold P_X0_law_597 at hF
  obtain ⟨hx164, hF⟩ := hF
  obtain ⟨hx165, hF⟩ := hF
  obtain ⟨hx166, hF⟩ := hF
  obtain ⟨b167, d168, hF⟩ := hF
  obtain ⟨hd169, hF⟩ := hF
  obtain ⟨hm178, hF⟩ := hF
  refine hg_callVi 1 [iX y1, iX y2] [] X hP hm178 (met_X1_bolster l D dA ad _ _ _ _ _ hF) (cwV 2 X.2.2.2.2.1 (lw_V q922 q923 q924 q98 q925) rfl rfl rfl (by decide +kernel) ⟨Nat.le_of_ble_eq_true rfl, Nat.le_of_ble_eq_true rfl⟩) rfl hag hl (ltlp (ltk (by decide)) (ltlp hx166 (ltlp hx165 (ltlp hx164 (ltli ltln))))) ltsn (k8 := 0) (cs0 (k := 0)) (by decide) hd169 dL_law_597 rfl (fun r173 ad g170 ι171 H locs hF X hP hag he172 hl => ?_)
  show W p l e ({ frames := 8192, cells := BC, slots := BS, locals := 100000 } : Room) s m args below meth c H locs (uc + b167) (us + d168) Zq (F0 m 600 ls [.int r173])
  refine ph_aload_n (n := 2) X hl dL_law_600 rfl rfl ?_
  refine ph_aload_n (n := 0) X hl dL_law_601 rfl rfl ?_
  refine ph_iload (n := 4) X hl dL_law_602 rfl ?_
  refine lv_iconst (v := 1) X.1 X.2.1 dL_law_604 (by decide) ?_
  refine lv_iadd X.1 X.2.1 dL_law_605 ?_
  obtain ⟨hr175, hF⟩ := hF
  refine hl_sld X hP (sc_ad hsc (hag.2 140 (by omega))) hr175 (k := (x4 + 1).toNatClampNeg) rfl dL_law_606 ?_
  refine ph_aload_n (n := 0) X hl dL_law_607 rfl rfl ?_
  refine ph_iload (n := 4) X hl dL_law_608 rfl ?_
  refine lv_iconst (v := 2) X.1 X.2.1 dL_law_610 (by decide) ?_
  refine lv_iadd X.1 X.2.1 dL_law_611 ?_
  obtain ⟨hr176, hF⟩ := hF
  refine hl_sld X hP (sc_ad hsc (hag.2 140 (by omega))) hr176 (k := (x4 + 2).toNatClampNeg) rfl dL_law_612 ?_
  refine lv_if_eq (tgt := 620) X.1 X.2.1 dL_law_613 (by decide) (fun c177 => ?_) (fun c177 => ?_)
  · have hF := hF.1 c177
    refine lv_iconst (v := 0) X.1 X.2.1 dL_law_620 (by decide) ?_
    exact w_X0_law_621 hlt hsc hret hk23 _ _ _ _ _ _ _ _ _ _ _ _ _ _ _ _ hF X hP hag hl
  · have hF := hF.2 c177
    refine lv_iconst (v := 1) X.1 X.2.1 dL_law_616 (by decide) ?_
    refine lv_goto (tgt := 621) X.1 X.2.1 dL_law_617 (by decide) ?_
    exact w_X0_law_621 hlt hsc hret hk23 _ _ _ _ _ _ _ _ _ _ _ _ _ _ _ _ hF X hP hag hl
set_option maxHeartbeats 2000000 in
theorem w_X0_law_576 (hlt : l.stackTraces = false) {L : Nat} {xs : Nat → Int32} {Zq : State → Prop} (hsc : SC s A ad0 L xs) {BC BS : Nat} {Q : Int32 → GT → S → Prop} (hret : LRet p l e s m args below meth c D dA A L xs BC BS Q Zq) {k23 : Nat → Nat → Nat → Int32 → GT → S → Nat → Nat → Prop} (hk23 : ∀ (x1 : Nat) (x2 : Nat) (x3 : Nat) (x4 : Int32) (g : GT) (ι : S) (uc us : Nat) (ad : Nat → Nat) (H : Heap) (locs : List Loc) (ls : Array Slot), k23 x1 x2 x3 x4 g ι uc us → CX p s m args c meth cL_law 7 (some .boolean) RX0 D dA ad A → PW D dA A s.heap ad (HS g ι) H locs → HA ad0 g0 ad g → LH ad ls 7 [(0, pX 140), (1, pX x1), (2, pX x2), (3, pX x3), (4, iX x4)] → W p l e ({ frames := 8192, cells := BC, slots := BS, locals := 100000 } : Room) s m args below meth c H locs (uc) (us) Zq (F0 m 23 ls [])) : ∀ (x1 : Nat) (x2 : Nat) (x3 : Nat) (x4 : Int32) (g : GT) (ι : S) (uc us : Nat) (ad : Nat → Nat) (H : Heap) (locs : List Loc) (ls : Array Slot), P_X0_law_576 L xs BC BS Q k23 x1 x2 x3 x4 g ι uc us → CX p s m args c meth cL_law 7 (some .boolean) RX0 D dA ad A → PW D dA A s.heap ad (HS g ι) H locs → HA ad0 g0 ad g → LH ad ls 7 [(0, pX 140), (1, pX x1), (2, pX x2), (3, pX x3), (4, iX x4)] → W p l e ({ frames := 8192, cells := BC, slots := BS, locals := 100000 } : Room) s m args below meth c H locs (uc) (us) Zq (F0 m 576 ls []) := by
  intro x1 x2 x3 x4 g ι uc us ad H locs ls hF X hP hag hl
  unfold P_X0_law_576 at hF
  refine ph_aload_n (n := 1) X hl dL_law_576 rfl rfl ?_
  refine ph_aload_n (n := 0) X hl dL_law_577 rfl rfl ?_
  refine ph_iload (n := 4) X hl dL_law_578 rfl ?_
  refine lv_iconst (v := 1) X.1 X.2.1 dL_law_580 (by decide) ?_
  refine lv_iadd X.1 X.2.1 dL_law_581 ?_
  obtain ⟨hr179, hF⟩ := hF
  refine hl_sld X hP (sc_ad hsc (hag.2 140 (by omega))) hr179 (k := (x4 + 1).toNatClampNeg) rfl dL_law_582 ?_
  refine ph_aload_n (n := 0) X hl dL_law_583 rfl rfl ?_
  refine ph_iload (n := 4) X hl dL_law_584 rfl ?_
  refine lv_iconst (v := 2) X.1 X.2.1 dL_law_586 (by decide) ?_
  refine lv_iadd X.1 X.2.1 dL_law_587 ?_
  obtain ⟨hr180, hF⟩ := hF
  refine hl_sld X hP (sc_ad hsc (hag.2 140 (by omega))) hr180 (k := (x4 + 2).toNatClampNeg) rfl dL_law_588 ?_
  refine lv_if_eq (tgt := 596) X.1 X.2.1 dL_law_589 (by decide) (fun c181 => ?_) (fun c181 => ?_)
  · have hF := hF.1 c181
    refine lv_iconst (v := 0) X.1 X.2.1 dL_law_596 (by decide) ?_
    exact w_X0_law_597 hlt hsc hret hk23 _ _ _ _ _ _ _ _ _ _ _ _ _ _ _ hF X hP hag hl
  · have hF := hF.2 c181
    refine lv_iconst (v := 1) X.1 X.2.1 dL_law_592 (by decide) ?_
    refine lv_goto (tgt := 597) X.1 X.2.1 dL_law_593 (by decide) ?_
    exact w_X0_law_597 hlt hsc hret hk23 _ _ _ _ _ _ _ _ _ _ _ _ _ _ _ hF X hP hag hl
set_option maxHeartbeats 2000000 in
theorem w_X0_law_694 (hlt : l.stackTraces = false) {L : Nat} {xs : Nat → Int32} {Zq : State → Prop} (hsc : SC s A ad0 L xs) {BC BS : Nat} {Q : Int32 → GT → S → Prop} (hret : LRet p l e s m args below meth c D dA A L xs BC BS Q Zq) {k23 : Nat → Nat → Nat → Int32 → GT → S → Nat → Nat → Prop} (hk23 : ∀ (x1 : Nat) (x2 : Nat) (x3 : Nat) (x4 : Int32) (g : GT) (ι : S) (uc us : Nat) (ad : Nat → Nat) (H : Heap) (locs : List Loc) (ls : Array Slot), k23 x1 x2 x3 x4 g ι uc us → CX p s m args c meth cL_law 7 (some .boolean) RX0 D dA ad A → PW D dA A s.heap ad (HS g ι) H locs → HA ad0 g0 ad g → LH ad ls 7 [(0, pX 140), (1, pX x1), (2, pX x2), (3, pX x3), (4, iX x4)] → W p l e ({ frames := 8192, cells := BC, slots := BS, locals := 100000 } : Room) s m args below meth c H locs (uc) (us) Zq (F0 m 23 ls [])) : ∀ (x1 : Nat) (x2 : Nat) (x3 : Nat) (x4 : Int32) (g : GT) (ι : S) (uc us : Nat) (ad : Nat → Nat) (H : Heap) (locs : List Loc) (ls : Array Slot), P_X0_law_694 L xs BC BS Q k23 x1 x2 x3 x4 g ι uc us → CX p s m args c meth cL_law 7 (some .boolean) RX0 D dA ad A → PW D dA A s.heap ad (HS g ι) H locs → HA ad0 g0 ad g → LH ad ls 7 [(0, pX 140), (1, pX x1), (2, pX x2), (3, pX x3), (4, iX x4)] → W p l e ({ frames := 8192, cells := BC, slots := BS, locals := 100000 } : Room) s m args below meth c H locs (uc) (us) Zq (F0 m 694 ls []) := by
  intro x1 x2 x3 x4 g ι uc us ad H locs ls hF X hP hag hl
  unfold P_X0_law_694 at hF
  refine lv_goto (tgt := 1690) X.1 X.2.1 dL_law_694 (by decide) ?_
  refine ph_iinc (v := x4 + 6) (k := 4) X hl dL_law_1690 rfl rfl (by decide) rfl (fun ls hl => ?_)
  refine lv_goto (tgt := 23) X.1 X.2.1 dL_law_1693 (by decide) ?_
  exact hk23 _ _ _ _ _ _ _ _ _ _ _ _ hF X hP hag (lh_sub hl [1, 2, 3, 4, 0] rfl)
set_option maxHeartbeats 2000000 in
theorem w_X0_law_629 (hlt : l.stackTraces = false) {L : Nat} {xs : Nat → Int32} {Zq : State → Prop} (hsc : SC s A ad0 L xs) {BC BS : Nat} {Q : Int32 → GT → S → Prop} (hret : LRet p l e s m args below meth c D dA A L xs BC BS Q Zq) {k23 : Nat → Nat → Nat → Int32 → GT → S → Nat → Nat → Prop} (hk23 : ∀ (x1 : Nat) (x2 : Nat) (x3 : Nat) (x4 : Int32) (g : GT) (ι : S) (uc us : Nat) (ad : Nat → Nat) (H : Heap) (locs : List Loc) (ls : Array Slot), k23 x1 x2 x3 x4 g ι uc us → CX p s m args c meth cL_law 7 (some .boolean) RX0 D dA ad A → PW D dA A s.heap ad (HS g ι) H locs → HA ad0 g0 ad g → LH ad ls 7 [(0, pX 140), (1, pX x1), (2, pX x2), (3, pX x3), (4, iX x4)] → W p l e ({ frames := 8192, cells := BC, slots := BS, locals := 100000 } : Room) s m args below meth c H locs (uc) (us) Zq (F0 m 23 ls [])) : ∀ (x1 : Nat) (x2 : Nat) (x3 : Nat) (x4 : Int32) (g : GT) (ι : S) (uc us : Nat) (ad : Nat → Nat) (H : Heap) (locs : List Loc) (ls : Array Slot), P_X0_law_629 L xs BC BS Q k23 x1 x2 x3 x4 g ι uc us → CX p s m args c meth cL_law 7 (some .boolean) RX0 D dA ad A → PW D dA A s.heap ad (HS g ι) H locs → HA ad0 g0 ad g → LH ad ls 7 [(0, pX 140), (1, pX x1), (2, pX x2), (3, pX x3), (4, iX x4)] → W p l e ({ frames := 8192, cells := BC, slots := BS, locals := 100000 } : Room) s m args below meth c H locs (uc) (us) Zq (F0 m 629 ls []) := by
  intro x1 x2 x3 x4 g ι uc us ad H locs ls hF X hP hag hl
  unfold P_X0_law_629 at hF
  refine ph_aload_n (n := 1) X hl dL_law_629 rfl rfl ?_
  refine ph_aload_n (n := 0) X hl dL_law_630 rfl rfl ?_
  refine ph_iload (n := 4) X hl dL_law_631 rfl ?_
  refine lv_iconst (v := 1) X.1 X.2.1 dL_law_633 (by decide) ?_
  refine lv_iadd X.1 X.2.1 dL_law_634 ?_
  obtain ⟨hr182, hF⟩ := hF
  refine hl_sld X hP (sc_ad hsc (hag.2 140 (by omega))) hr182 (k := (x4 + 1).toNatClampNeg) rfl dL_law_635 ?_
  refine ph_aload_n (n := 0) X hl dL_law_636 rfl rfl ?_
  refine ph_iload (n := 4) X hl dL_law_637 rfl ?_
  refine lv_iconst (v := 2) X.1 X.2.1 dL_law_639 (by decide) ?_
  refine lv_iadd X.1 X.2.1 dL_law_640 ?_
  obtain ⟨hr183, hF⟩ := hF
  refine hl_sld X hP (sc_ad hsc (hag.2 140 (by omega))) hr183 (k := (x4 + 2).toNatClampNeg) rfl dL_law_641 ?_
  refine ph_aload_n (n := 3) X hl dL_law_642 rfl rfl ?_
  obtain ⟨hx184, hF⟩ := hF
  obtain ⟨hx185, hF⟩ := hF
  obtain ⟨hx186, hF⟩ := hF
  obtain ⟨b187, d188, hF⟩ := hF
  obtain ⟨hd189, hF⟩ := hF
  refine hl_callW [pX x1, iX (xs ((x4 + 1).toNatClampNeg)), iX (xs ((x4 + 2).toNatClampNeg)), pX x3] [] X hP (met_X0_out l D dA ad _ _ hlt _ _ _ hF) (vx_cwSW 4 X.2.2.2.2.1 (lw_SW q1609 q1610 q97 q1611) rfl rfl rfl (by decide +kernel) ⟨Nat.le_of_ble_eq_true rfl, Nat.le_of_ble_eq_true rfl⟩) rfl hag hl (ltlp (ltk (by decide)) (ltlp hx186 (ltlp hx185 (ltlp hx184 (ltli ltln))))) ltsn (k8 := 0) (cs0 (k := 0)) (by decide) hd189 dL_law_643 rfl (fun r193 ad g190 ι191 H locs hF X hP hag he192 hl => ?_)
  show W p l e ({ frames := 8192, cells := BC, slots := BS, locals := 100000 } : Room) s m args below meth c H locs (uc + b187) (us + d188) Zq (F0 m 646 ls [.int r193])
  refine ph_istore X hl dL_law_646 (by decide) rfl (fun ls hl => ?_)
  refine ph_aload_n (n := 3) X hl dL_law_648 rfl rfl ?_
  refine ph_aload_n (n := 1) X hl dL_law_649 rfl rfl ?_
  refine ph_iload (n := 5) X hl dL_law_650 rfl ?_
  refine lv_iconst (v := 1) X.1 X.2.1 dL_law_652 (by decide) ?_
  refine lv_iadd X.1 X.2.1 dL_law_653 ?_
  obtain ⟨hr194, hF⟩ := hF
  refine hl_sld X hP (sc_ad hsc (hag.2 140 (by omega))) hr194 (k := (x4 + 1).toNatClampNeg) rfl dL_law_654 ?_
  refine ph_aload_n (n := 1) X hl dL_law_655 rfl rfl ?_
  refine ph_iload (n := 5) X hl dL_law_656 rfl ?_
  refine lv_iconst (v := 2) X.1 X.2.1 dL_law_658 (by decide) ?_
  refine lv_iadd X.1 X.2.1 dL_law_659 ?_
  obtain ⟨hr195, hF⟩ := hF
  refine hl_sld X hP (sc_ad hsc (hag.2 140 (by omega))) hr195 (k := (x4 + 2).toNatClampNeg) rfl dL_law_660 ?_
  obtain ⟨hT196, hF⟩ := hF
  refine hg_callTi [xs ((x4 + 1).toNatClampNeg), xs ((x4 + 2).toNatClampNeg)] X hP hT196 (met_X8_out l D dA (adT ad x2) _ _ hF) (cwV 2 X.2.2.2.2.1 (lw_V q2181 q2182 q2183 q126 q2184) rfl rfl rfl (by decide +kernel) ⟨Nat.le_of_ble_eq_true rfl, Nat.le_of_ble_eq_true rfl⟩) rfl hl (k8 := 0) (cs0 (k := 0)) (by decide) hd189 dL_law_661 rfl (fun r197 σ198 H locs hF hP => ?_)
  show W p l e ({ frames := 8192, cells := BC, slots := BS, locals := 100000 } : Room) s m args below meth c H locs (uc + b187) (us + d188) Zq (F0 m 664 ls [.int r197])
  refine ph_istore X hl dL_law_664 (by decide) rfl (fun ls hl => ?_)
  refine ph_aload_n (n := 4) X hl dL_law_666 rfl rfl ?_
  obtain ⟨hT199, hF⟩ := hF
  refine hg_callTi [] X hP hT199 (met_X8_thrown l D dA (adT ad x2) _ _ hF) (cwV 0 X.2.2.2.2.1 (lw_V q1990 q1991 q1992 q126 q1993) rfl rfl rfl (by decide +kernel) ⟨Nat.le_of_ble_eq_true rfl, Nat.le_of_ble_eq_true rfl⟩) rfl hl (k8 := 0) (cs0 (k := 0)) (by decide) hd189 dL_law_667 rfl (fun r200 σ201 H locs hF hP => ?_)
  show W p l e ({ frames := 8192, cells := BC, slots := BS, locals := 100000 } : Room) s m args below meth c H locs (uc + b187) (us + d188) Zq (F0 m 670 ls [.int r200])
  refine ph_iload (n := 1) X hl dL_law_670 rfl ?_
  refine lv_icmp_eq (tgt := 677) X.1 X.2.1 dL_law_672 (by decide) (fun c206 => ?_) (fun c206 => ?_)
  · have hF := hF.1 c206
    refine ph_iload (n := 1) X hl dL_law_677 rfl ?_
    refine lv_if_ne (tgt := 694) X.1 X.2.1 dL_law_679 (by decide) (fun c205 => ?_) (fun c205 => ?_)
    · have hF := hF.1 c205
      exact w_X0_law_694 hlt hsc hret hk23 _ _ _ _ _ _ _ _ _ _ _ _ hF X hP hag (lh_sub hl [2, 3, 4, 5, 6] rfl)
    · have hF := hF.2 c205
      refine ph_aload_n (n := 5) X hl dL_law_682 rfl rfl ?_
      refine lv_iconst (v := 0) X.1 X.2.1 dL_law_683 (by decide) ?_
      obtain ⟨hm202, hF⟩ := hF
      obtain ⟨hr203, hF⟩ := hF
      refine hl_lald X hP hm202 hr203 (k := 0) (by decide) dL_law_684 ?_
      refine ph_iload (n := 0) X hl dL_law_685 rfl ?_
      refine lv_i2l X.1 X.2.1 dL_law_687 rfl ?_
      refine W.lcmp X.1 X.2.1 dL_law_688 ?_
      refine lv_if_eq (tgt := 694) X.1 X.2.1 dL_law_689 (by decide) (fun c204 => ?_) (fun c204 => ?_)
      · have hF := hF.1 c204
        exact w_X0_law_694 hlt hsc hret hk23 _ _ _ _ _ _ _ _ _ _ _ _ hF X hP hag (lh_sub hl [2, 3, 4, 5, 6] rfl)
      · have hF := hF.2 c204
        refine lv_iconst (v := 0) X.1 X.2.1 dL_law_692 (by decide) ?_
        exact hret _ _ _ _ _ _ _ _ _ _ dL_law_693 hF hd189 X hP
  · have hF := hF.2 c206
    refine lv_iconst (v := 0) X.1 X.2.1 dL_law_675 (by decide) ?_
    exact hret _ _ _ _ _ _ _ _ _ _ dL_law_676 hF hd189 X hP
set_option maxHeartbeats 2000000 in
theorem w_X0_law_697 (hlt : l.stackTraces = false) {L : Nat} {xs : Nat → Int32} {Zq : State → Prop} (hsc : SC s A ad0 L xs) {BC BS : Nat} {Q : Int32 → GT → S → Prop} (hret : LRet p l e s m args below meth c D dA A L xs BC BS Q Zq) {k23 : Nat → Nat → Nat → Int32 → GT → S → Nat → Nat → Prop} (hk23 : ∀ (x1 : Nat) (x2 : Nat) (x3 : Nat) (x4 : Int32) (g : GT) (ι : S) (uc us : Nat) (ad : Nat → Nat) (H : Heap) (locs : List Loc) (ls : Array Slot), k23 x1 x2 x3 x4 g ι uc us → CX p s m args c meth cL_law 7 (some .boolean) RX0 D dA ad A → PW D dA A s.heap ad (HS g ι) H locs → HA ad0 g0 ad g → LH ad ls 7 [(0, pX 140), (1, pX x1), (2, pX x2), (3, pX x3), (4, iX x4)] → W p l e ({ frames := 8192, cells := BC, slots := BS, locals := 100000 } : Room) s m args below meth c H locs (uc) (us) Zq (F0 m 23 ls [])) : ∀ (x1 : Nat) (x2 : Nat) (x3 : Nat) (x4 : Int32) (g : GT) (ι : S) (uc us : Nat) (ad : Nat → Nat) (H : Heap) (locs : List Loc) (ls : Array Slot), P_X0_law_697 L xs BC BS Q k23 x1 x2 x3 x4 g ι uc us → CX p s m args c meth cL_law 7 (some .boolean) RX0 D dA ad A → PW D dA A s.heap ad (HS g ι) H locs → HA ad0 g0 ad g → LH ad ls 7 [(0, pX 140), (1, pX x1), (2, pX x2), (3, pX x3), (4, iX x4)] → W p l e ({ frames := 8192, cells := BC, slots := BS, locals := 100000 } : Room) s m args below meth c H locs (uc) (us) Zq (F0 m 697 ls []) := by
  intro x1 x2 x3 x4 g ι uc us ad H locs ls hF X hP hag hl
  unfold P_X0_law_697 at hF
  refine ph_aload_n (n := 1) X hl dL_law_697 rfl rfl ?_
  obtain ⟨hd207, hF⟩ := hF
  obtain ⟨hm211, hF⟩ := hF
  refine cg_callVi 1 [] X hP hm211 (met_X1_undo l D dA ad g _ _ hF) (cwV 0 X.2.2.2.2.1 (lw_V q926 q927 q928 q98 q929) rfl rfl rfl (by decide +kernel) ⟨Nat.le_of_ble_eq_true rfl, Nat.le_of_ble_eq_true rfl⟩) rfl hl (k8 := 0) (cs0 (k := 0)) (by decide) hd207 dL_law_698 rfl (fun r208 ι209 H locs hF hP => ?_)
  refine ph_aload_n (n := 2) X hl dL_law_701 rfl rfl ?_
  obtain ⟨hT212, hF⟩ := hF
  refine hg_callTi [] X hP hT212 (met_X8_undo l D dA (adT ad x2) _ _ hF) (cwV 0 X.2.2.2.2.1 (lw_V q2186 q2187 q2188 q126 q2189) rfl rfl rfl (by decide +kernel) ⟨Nat.le_of_ble_eq_true rfl, Nat.le_of_ble_eq_true rfl⟩) rfl hl (k8 := 1) (csi (cs0 (k := 0))) (by decide) hd207 dL_law_702 rfl (fun r213 σ214 H locs hF hP => ?_)
  show W p l e ({ frames := 8192, cells := BC, slots := BS, locals := 100000 } : Room) s m args below meth c H locs (uc) (us) Zq (F0 m 705 ls [.int r213, .int r208])
  refine lv_icmp_eq (tgt := 1690) X.1 X.2.1 dL_law_705 (by decide) (fun c215 => ?_) (fun c215 => ?_)
  · have hF := hF.1 c215
    refine ph_iinc (v := x4 + 6) (k := 4) X hl dL_law_1690 rfl rfl (by decide) rfl (fun ls hl => ?_)
    refine lv_goto (tgt := 23) X.1 X.2.1 dL_law_1693 (by decide) ?_
    exact hk23 _ _ _ _ _ _ _ _ _ _ _ _ hF X hP hag (lh_sub hl [1, 2, 3, 4, 0] rfl)
  · have hF := hF.2 c215
    refine lv_iconst (v := 0) X.1 X.2.1 dL_law_708 (by decide) ?_
    exact hret _ _ _ _ _ _ _ _ _ _ dL_law_709 hF hd207 X hP
set_option maxHeartbeats 2000000 in
theorem w_X0_law_763 (hlt : l.stackTraces = false) {L : Nat} {xs : Nat → Int32} {Zq : State → Prop} (hsc : SC s A ad0 L xs) {BC BS : Nat} {Q : Int32 → GT → S → Prop} (hret : LRet p l e s m args below meth c D dA A L xs BC BS Q Zq) {k23 : Nat → Nat → Nat → Int32 → GT → S → Nat → Nat → Prop} (hk23 : ∀ (x1 : Nat) (x2 : Nat) (x3 : Nat) (x4 : Int32) (g : GT) (ι : S) (uc us : Nat) (ad : Nat → Nat) (H : Heap) (locs : List Loc) (ls : Array Slot), k23 x1 x2 x3 x4 g ι uc us → CX p s m args c meth cL_law 7 (some .boolean) RX0 D dA ad A → PW D dA A s.heap ad (HS g ι) H locs → HA ad0 g0 ad g → LH ad ls 7 [(0, pX 140), (1, pX x1), (2, pX x2), (3, pX x3), (4, iX x4)] → W p l e ({ frames := 8192, cells := BC, slots := BS, locals := 100000 } : Room) s m args below meth c H locs (uc) (us) Zq (F0 m 23 ls [])) : ∀ (x1 : Nat) (x2 : Nat) (x3 : Nat) (x4 : Int32) (g : GT) (ι : S) (uc us : Nat) (ad : Nat → Nat) (H : Heap) (locs : List Loc) (ls : Array Slot), P_X0_law_763 L xs BC BS Q k23 x1 x2 x3 x4 g ι uc us → CX p s m args c meth cL_law 7 (some .boolean) RX0 D dA ad A → PW D dA A s.heap ad (HS g ι) H locs → HA ad0 g0 ad g → LH ad ls 7 [(0, pX 140), (1, pX x1), (2, pX x2), (3, pX x3), (4, iX x4)] → W p l e ({ frames := 8192, cells := BC, slots := BS, locals := 100000 } : Room) s m args below meth c H locs (uc) (us) Zq (F0 m 763 ls []) := by
  intro x1 x2 x3 x4 g ι uc us ad H locs ls hF X hP hag hl
  unfold P_X0_law_763 at hF
  refine lv_goto (tgt := 1690) X.1 X.2.1 dL_law_763 (by decide) ?_
  refine ph_iinc (v := x4 + 6) (k := 4) X hl dL_law_1690 rfl rfl (by decide) rfl (fun ls hl => ?_)
  refine lv_goto (tgt := 23) X.1 X.2.1 dL_law_1693 (by decide) ?_
  exact hk23 _ _ _ _ _ _ _ _ _ _ _ _ hF X hP hag (lh_sub hl [1, 2, 3, 4, 0] rfl)
set_option maxHeartbeats 2000000 in
theorem w_X0_law_710 (hlt : l.stackTraces = false) {L : Nat} {xs : Nat → Int32} {Zq : State → Prop} (hsc : SC s A ad0 L xs) {BC BS : Nat} {Q : Int32 → GT → S → Prop} (hret : LRet p l e s m args below meth c D dA A L xs BC BS Q Zq) {k23 : Nat → Nat → Nat → Int32 → GT → S → Nat → Nat → Prop} (hk23 : ∀ (x1 : Nat) (x2 : Nat) (x3 : Nat) (x4 : Int32) (g : GT) (ι : S) (uc us : Nat) (ad : Nat → Nat) (H : Heap) (locs : List Loc) (ls : Array Slot), k23 x1 x2 x3 x4 g ι uc us → CX p s m args c meth cL_law 7 (some .boolean) RX0 D dA ad A → PW D dA A s.heap ad (HS g ι) H locs → HA ad0 g0 ad g → LH ad ls 7 [(0, pX 140), (1, pX x1), (2, pX x2), (3, pX x3), (4, iX x4)] → W p l e ({ frames := 8192, cells := BC, slots := BS, locals := 100000 } : Room) s m args below meth c H locs (uc) (us) Zq (F0 m 23 ls [])) : ∀ (x1 : Nat) (x2 : Nat) (x3 : Nat) (x4 : Int32) (g : GT) (ι : S) (uc us : Nat) (ad : Nat → Nat) (H : Heap) (locs : List Loc) (ls : Array Slot), P_X0_law_710 L xs BC BS Q k23 x1 x2 x3 x4 g ι uc us → CX p s m args c meth cL_law 7 (some .boolean) RX0 D dA ad A → PW D dA A s.heap ad (HS g ι) H locs → HA ad0 g0 ad g → LH ad ls 7 [(0, pX 140), (1, pX x1), (2, pX x2), (3, pX x3), (4, iX x4)] → W p l e ({ frames := 8192, cells := BC, slots := BS, locals := 100000 } : Room) s m args below meth c H locs (uc) (us) Zq (F0 m 710 ls []) := by
  intro x1 x2 x3 x4 g ι uc us ad H locs ls hF X hP hag hl
  unfold P_X0_law_710 at hF
  refine ph_aload_n (n := 1) X hl dL_law_710 rfl rfl ?_
  refine ph_aload_n (n := 0) X hl dL_law_711 rfl rfl ?_
  refine ph_iload (n := 4) X hl dL_law_712 rfl ?_
  refine lv_iconst (v := 1) X.1 X.2.1 dL_law_714 (by decide) ?_
  refine lv_iadd X.1 X.2.1 dL_law_715 ?_
  obtain ⟨hr216, hF⟩ := hF
  refine hl_sld X hP (sc_ad hsc (hag.2 140 (by omega))) hr216 (k := (x4 + 1).toNatClampNeg) rfl dL_law_716 ?_
  refine ph_aload_n (n := 3) X hl dL_law_717 rfl rfl ?_
  obtain ⟨hx217, hF⟩ := hF
  obtain ⟨hx218, hF⟩ := hF
  obtain ⟨hx219, hF⟩ := hF
  obtain ⟨hd220, hF⟩ := hF
  refine hl_callW [pX x1, iX (xs ((x4 + 1).toNatClampNeg)), pX x3] [] X hP (met_X0_night l D dA ad hlt _ _ _ hF) (vx_cwSW 3 X.2.2.2.2.1 (lw_SW q1616 q1617 q97 q1618) rfl rfl rfl (by decide +kernel) ⟨Nat.le_of_ble_eq_true rfl, Nat.le_of_ble_eq_true rfl⟩) rfl hag hl (ltlp (ltk (by decide)) (ltlp hx219 (ltlp hx218 (ltlp hx217 (ltli ltln))))) ltsn (k8 := 0) (cs0 (k := 0)) (by decide) hd220 dL_law_718 rfl (fun r224 ad g221 ι222 H locs hF X hP hag he223 hl => ?_)
  show W p l e ({ frames := 8192, cells := BC, slots := BS, locals := 100000 } : Room) s m args below meth c H locs (uc + 1) (us + 6) Zq (F0 m 721 ls [.int r224])
  refine ph_istore X hl dL_law_721 (by decide) rfl (fun ls hl => ?_)
  refine ph_aload_n (n := 3) X hl dL_law_723 rfl rfl ?_
  refine ph_aload_n (n := 1) X hl dL_law_724 rfl rfl ?_
  refine ph_iload (n := 5) X hl dL_law_725 rfl ?_
  refine lv_iconst (v := 1) X.1 X.2.1 dL_law_727 (by decide) ?_
  refine lv_iadd X.1 X.2.1 dL_law_728 ?_
  obtain ⟨hr225, hF⟩ := hF
  refine hl_sld X hP (sc_ad hsc (hag.2 140 (by omega))) hr225 (k := (x4 + 1).toNatClampNeg) rfl dL_law_729 ?_
  obtain ⟨hT226, hF⟩ := hF
  refine hg_callTi [xs ((x4 + 1).toNatClampNeg)] X hP hT226 (met_X8_night l D dA (adT ad x2) _ _ hF) (cwV 1 X.2.2.2.2.1 (lw_V q2194 q2195 q2196 q126 q2197) rfl rfl rfl (by decide +kernel) ⟨Nat.le_of_ble_eq_true rfl, Nat.le_of_ble_eq_true rfl⟩) rfl hl (k8 := 0) (cs0 (k := 0)) (by decide) hd220 dL_law_730 rfl (fun r227 σ228 H locs hF hP => ?_)
  show W p l e ({ frames := 8192, cells := BC, slots := BS, locals := 100000 } : Room) s m args below meth c H locs (uc + 1) (us + 6) Zq (F0 m 733 ls [.int r227])
  refine ph_istore X hl dL_law_733 (by decide) rfl (fun ls hl => ?_)
  refine ph_aload_n (n := 4) X hl dL_law_735 rfl rfl ?_
  obtain ⟨hT229, hF⟩ := hF
  refine hg_callTi [] X hP hT229 (met_X8_thrown l D dA (adT ad x2) _ _ hF) (cwV 0 X.2.2.2.2.1 (lw_V q1990 q1991 q1992 q126 q1993) rfl rfl rfl (by decide +kernel) ⟨Nat.le_of_ble_eq_true rfl, Nat.le_of_ble_eq_true rfl⟩) rfl hl (k8 := 0) (cs0 (k := 0)) (by decide) hd220 dL_law_736 rfl (fun r230 σ231 H locs hF hP => ?_)
  show W p l e ({ frames := 8192, cells := BC, slots := BS, locals := 100000 } : Room) s m args below meth c H locs (uc + 1) (us + 6) Zq (F0 m 739 ls [.int r230])
  refine ph_iload (n := 1) X hl dL_law_739 rfl ?_
  refine lv_icmp_eq (tgt := 746) X.1 X.2.1 dL_law_741 (by decide) (fun c236 => ?_) (fun c236 => ?_)
  · have hF := hF.1 c236
    refine ph_iload (n := 1) X hl dL_law_746 rfl ?_
    refine lv_if_ne (tgt := 763) X.1 X.2.1 dL_law_748 (by decide) (fun c235 => ?_) (fun c235 => ?_)
    · have hF := hF.1 c235
      exact w_X0_law_763 hlt hsc hret hk23 _ _ _ _ _ _ _ _ _ _ _ _ hF X hP hag (lh_sub hl [2, 3, 4, 5, 6] rfl)
    · have hF := hF.2 c235
      refine ph_aload_n (n := 5) X hl dL_law_751 rfl rfl ?_
      refine lv_iconst (v := 0) X.1 X.2.1 dL_law_752 (by decide) ?_
      obtain ⟨hm232, hF⟩ := hF
      obtain ⟨hr233, hF⟩ := hF
      refine hl_lald X hP hm232 hr233 (k := 0) (by decide) dL_law_753 ?_
      refine ph_iload (n := 0) X hl dL_law_754 rfl ?_
      refine lv_i2l X.1 X.2.1 dL_law_756 rfl ?_
      refine W.lcmp X.1 X.2.1 dL_law_757 ?_
      refine lv_if_eq (tgt := 763) X.1 X.2.1 dL_law_758 (by decide) (fun c234 => ?_) (fun c234 => ?_)
      · have hF := hF.1 c234
        exact w_X0_law_763 hlt hsc hret hk23 _ _ _ _ _ _ _ _ _ _ _ _ hF X hP hag (lh_sub hl [2, 3, 4, 5, 6] rfl)
      · have hF := hF.2 c234
        refine lv_iconst (v := 0) X.1 X.2.1 dL_law_761 (by decide) ?_
        exact hret _ _ _ _ _ _ _ _ _ _ dL_law_762 hF hd220 X hP
  · have hF := hF.2 c236
    refine lv_iconst (v := 0) X.1 X.2.1 dL_law_744 (by decide) ?_
    exact hret _ _ _ _ _ _ _ _ _ _ dL_law_745 hF hd220 X hP
set_option maxHeartbeats 2000000 in
theorem w_X0_law_831 (hlt : l.stackTraces = false) {L : Nat} {xs : Nat → Int32} {Zq : State → Prop} (hsc : SC s A ad0 L xs) {BC BS : Nat} {Q : Int32 → GT → S → Prop} (hret : LRet p l e s m args below meth c D dA A L xs BC BS Q Zq) {k23 : Nat → Nat → Nat → Int32 → GT → S → Nat → Nat → Prop} (hk23 : ∀ (x1 : Nat) (x2 : Nat) (x3 : Nat) (x4 : Int32) (g : GT) (ι : S) (uc us : Nat) (ad : Nat → Nat) (H : Heap) (locs : List Loc) (ls : Array Slot), k23 x1 x2 x3 x4 g ι uc us → CX p s m args c meth cL_law 7 (some .boolean) RX0 D dA ad A → PW D dA A s.heap ad (HS g ι) H locs → HA ad0 g0 ad g → LH ad ls 7 [(0, pX 140), (1, pX x1), (2, pX x2), (3, pX x3), (4, iX x4)] → W p l e ({ frames := 8192, cells := BC, slots := BS, locals := 100000 } : Room) s m args below meth c H locs (uc) (us) Zq (F0 m 23 ls [])) : ∀ (x1 : Nat) (x2 : Nat) (x3 : Nat) (x4 : Int32) (g : GT) (ι : S) (uc us : Nat) (ad : Nat → Nat) (H : Heap) (locs : List Loc) (ls : Array Slot), P_X0_law_831 L xs BC BS Q k23 x1 x2 x3 x4 g ι uc us → CX p s m args c meth cL_law 7 (some .boolean) RX0 D dA ad A → PW D dA A s.heap ad (HS g ι) H locs → HA ad0 g0 ad g → LH ad ls 7 [(0, pX 140), (1, pX x1), (2, pX x2), (3, pX x3), (4, iX x4)] → W p l e ({ frames := 8192, cells := BC, slots := BS, locals := 100000 } : Room) s m args below meth c H locs (uc) (us) Zq (F0 m 831 ls []) := by
  intro x1 x2 x3 x4 g ι uc us ad H locs ls hF X hP hag hl
  unfold P_X0_law_831 at hF
  refine lv_goto (tgt := 1690) X.1 X.2.1 dL_law_831 (by decide) ?_
  refine ph_iinc (v := x4 + 6) (k := 4) X hl dL_law_1690 rfl rfl (by decide) rfl (fun ls hl => ?_)
  refine lv_goto (tgt := 23) X.1 X.2.1 dL_law_1693 (by decide) ?_
  exact hk23 _ _ _ _ _ _ _ _ _ _ _ _ hF X hP hag (lh_sub hl [1, 2, 3, 4, 0] rfl)
set_option maxHeartbeats 2000000 in
theorem w_X0_law_766 (hlt : l.stackTraces = false) {L : Nat} {xs : Nat → Int32} {Zq : State → Prop} (hsc : SC s A ad0 L xs) {BC BS : Nat} {Q : Int32 → GT → S → Prop} (hret : LRet p l e s m args below meth c D dA A L xs BC BS Q Zq) {k23 : Nat → Nat → Nat → Int32 → GT → S → Nat → Nat → Prop} (hk23 : ∀ (x1 : Nat) (x2 : Nat) (x3 : Nat) (x4 : Int32) (g : GT) (ι : S) (uc us : Nat) (ad : Nat → Nat) (H : Heap) (locs : List Loc) (ls : Array Slot), k23 x1 x2 x3 x4 g ι uc us → CX p s m args c meth cL_law 7 (some .boolean) RX0 D dA ad A → PW D dA A s.heap ad (HS g ι) H locs → HA ad0 g0 ad g → LH ad ls 7 [(0, pX 140), (1, pX x1), (2, pX x2), (3, pX x3), (4, iX x4)] → W p l e ({ frames := 8192, cells := BC, slots := BS, locals := 100000 } : Room) s m args below meth c H locs (uc) (us) Zq (F0 m 23 ls [])) : ∀ (x1 : Nat) (x2 : Nat) (x3 : Nat) (x4 : Int32) (g : GT) (ι : S) (uc us : Nat) (ad : Nat → Nat) (H : Heap) (locs : List Loc) (ls : Array Slot), P_X0_law_766 L xs BC BS Q k23 x1 x2 x3 x4 g ι uc us → CX p s m args c meth cL_law 7 (some .boolean) RX0 D dA ad A → PW D dA A s.heap ad (HS g ι) H locs → HA ad0 g0 ad g → LH ad ls 7 [(0, pX 140), (1, pX x1), (2, pX x2), (3, pX x3), (4, iX x4)] → W p l e ({ frames := 8192, cells := BC, slots := BS, locals := 100000 } : Room) s m args below meth c H locs (uc) (us) Zq (F0 m 766 ls []) := by
  intro x1 x2 x3 x4 g ι uc us ad H locs ls hF X hP hag hl
  unfold P_X0_law_766 at hF
  refine ph_aload_n (n := 1) X hl dL_law_766 rfl rfl ?_
  refine ph_aload_n (n := 0) X hl dL_law_767 rfl rfl ?_
  refine ph_iload (n := 4) X hl dL_law_768 rfl ?_
  refine lv_iconst (v := 1) X.1 X.2.1 dL_law_770 (by decide) ?_
  refine lv_iadd X.1 X.2.1 dL_law_771 ?_
  obtain ⟨hr237, hF⟩ := hF
  refine hl_sld X hP (sc_ad hsc (hag.2 140 (by omega))) hr237 (k := (x4 + 1).toNatClampNeg) rfl dL_law_772 ?_
  refine ph_aload_n (n := 0) X hl dL_law_773 rfl rfl ?_
  refine ph_iload (n := 4) X hl dL_law_774 rfl ?_
  refine lv_iconst (v := 2) X.1 X.2.1 dL_law_776 (by decide) ?_
  refine lv_iadd X.1 X.2.1 dL_law_777 ?_
  obtain ⟨hr238, hF⟩ := hF
  refine hl_sld X hP (sc_ad hsc (hag.2 140 (by omega))) hr238 (k := (x4 + 2).toNatClampNeg) rfl dL_law_778 ?_
  refine ph_aload_n (n := 3) X hl dL_law_779 rfl rfl ?_
  obtain ⟨hx239, hF⟩ := hF
  obtain ⟨hx240, hF⟩ := hF
  obtain ⟨hx241, hF⟩ := hF
  obtain ⟨hd242, hF⟩ := hF
  refine hl_callW [pX x1, iX (xs ((x4 + 1).toNatClampNeg)), iX (xs ((x4 + 2).toNatClampNeg)), pX x3] [] X hP (met_X0_woken l D dA ad hlt _ _ _ hF) (vx_cwSW 4 X.2.2.2.2.1 (lw_SW q1623 q1624 q97 q1625) rfl rfl rfl (by decide +kernel) ⟨Nat.le_of_ble_eq_true rfl, Nat.le_of_ble_eq_true rfl⟩) rfl hag hl (ltlp (ltk (by decide)) (ltlp hx241 (ltlp hx240 (ltlp hx239 (ltli ltln))))) ltsn (k8 := 0) (cs0 (k := 0)) (by decide) hd242 dL_law_780 rfl (fun r246 ad g243 ι244 H locs hF X hP hag he245 hl => ?_)
  show W p l e ({ frames := 8192, cells := BC, slots := BS, locals := 100000 } : Room) s m args below meth c H locs (uc + 2) (us + 12) Zq (F0 m 783 ls [.int r246])
  refine ph_istore X hl dL_law_783 (by decide) rfl (fun ls hl => ?_)
  refine ph_aload_n (n := 3) X hl dL_law_785 rfl rfl ?_
  refine ph_aload_n (n := 1) X hl dL_law_786 rfl rfl ?_
  refine ph_iload (n := 5) X hl dL_law_787 rfl ?_
  refine lv_iconst (v := 1) X.1 X.2.1 dL_law_789 (by decide) ?_
  refine lv_iadd X.1 X.2.1 dL_law_790 ?_
  obtain ⟨hr247, hF⟩ := hF
  refine hl_sld X hP (sc_ad hsc (hag.2 140 (by omega))) hr247 (k := (x4 + 1).toNatClampNeg) rfl dL_law_791 ?_
  refine ph_aload_n (n := 1) X hl dL_law_792 rfl rfl ?_
  refine ph_iload (n := 5) X hl dL_law_793 rfl ?_
  refine lv_iconst (v := 2) X.1 X.2.1 dL_law_795 (by decide) ?_
  refine lv_iadd X.1 X.2.1 dL_law_796 ?_
  obtain ⟨hr248, hF⟩ := hF
  refine hl_sld X hP (sc_ad hsc (hag.2 140 (by omega))) hr248 (k := (x4 + 2).toNatClampNeg) rfl dL_law_797 ?_
  obtain ⟨hT249, hF⟩ := hF
  refine hg_callTi [xs ((x4 + 1).toNatClampNeg), xs ((x4 + 2).toNatClampNeg)] X hP hT249 (met_X8_woken l D dA (adT ad x2) _ _ hF) (cwV 2 X.2.2.2.2.1 (lw_V q2264 q2265 q2266 q126 q2267) rfl rfl rfl (by decide +kernel) ⟨Nat.le_of_ble_eq_true rfl, Nat.le_of_ble_eq_true rfl⟩) rfl hl (k8 := 0) (cs0 (k := 0)) (by decide) hd242 dL_law_798 rfl (fun r250 σ251 H locs hF hP => ?_)
  show W p l e ({ frames := 8192, cells := BC, slots := BS, locals := 100000 } : Room) s m args below meth c H locs (uc + 2) (us + 12) Zq (F0 m 801 ls [.int r250])
  refine ph_istore X hl dL_law_801 (by decide) rfl (fun ls hl => ?_)
  refine ph_aload_n (n := 4) X hl dL_law_803 rfl rfl ?_
  obtain ⟨hT252, hF⟩ := hF
  refine hg_callTi [] X hP hT252 (met_X8_thrown l D dA (adT ad x2) _ _ hF) (cwV 0 X.2.2.2.2.1 (lw_V q1990 q1991 q1992 q126 q1993) rfl rfl rfl (by decide +kernel) ⟨Nat.le_of_ble_eq_true rfl, Nat.le_of_ble_eq_true rfl⟩) rfl hl (k8 := 0) (cs0 (k := 0)) (by decide) hd242 dL_law_804 rfl (fun r253 σ254 H locs hF hP => ?_)
  show W p l e ({ frames := 8192, cells := BC, slots := BS, locals := 100000 } : Room) s m args below meth c H locs (uc + 2) (us + 12) Zq (F0 m 807 ls [.int r253])
  refine ph_iload (n := 1) X hl dL_law_807 rfl ?_
  refine lv_icmp_eq (tgt := 814) X.1 X.2.1 dL_law_809 (by decide) (fun c259 => ?_) (fun c259 => ?_)
  · have hF := hF.1 c259
    refine ph_iload (n := 1) X hl dL_law_814 rfl ?_
    refine lv_if_ne (tgt := 831) X.1 X.2.1 dL_law_816 (by decide) (fun c258 => ?_) (fun c258 => ?_)
    · have hF := hF.1 c258
      exact w_X0_law_831 hlt hsc hret hk23 _ _ _ _ _ _ _ _ _ _ _ _ hF X hP hag (lh_sub hl [2, 3, 4, 5, 6] rfl)
    · have hF := hF.2 c258
      refine ph_aload_n (n := 5) X hl dL_law_819 rfl rfl ?_
      refine lv_iconst (v := 0) X.1 X.2.1 dL_law_820 (by decide) ?_
      obtain ⟨hm255, hF⟩ := hF
      obtain ⟨hr256, hF⟩ := hF
      refine hl_lald X hP hm255 hr256 (k := 0) (by decide) dL_law_821 ?_
      refine ph_iload (n := 0) X hl dL_law_822 rfl ?_
      refine lv_i2l X.1 X.2.1 dL_law_824 rfl ?_
      refine W.lcmp X.1 X.2.1 dL_law_825 ?_
      refine lv_if_eq (tgt := 831) X.1 X.2.1 dL_law_826 (by decide) (fun c257 => ?_) (fun c257 => ?_)
      · have hF := hF.1 c257
        exact w_X0_law_831 hlt hsc hret hk23 _ _ _ _ _ _ _ _ _ _ _ _ hF X hP hag (lh_sub hl [2, 3, 4, 5, 6] rfl)
      · have hF := hF.2 c257
        refine lv_iconst (v := 0) X.1 X.2.1 dL_law_829 (by decide) ?_
        exact hret _ _ _ _ _ _ _ _ _ _ dL_law_830 hF hd242 X hP
  · have hF := hF.2 c259
    refine lv_iconst (v := 0) X.1 X.2.1 dL_law_812 (by decide) ?_
    exact hret _ _ _ _ _ _ _ _ _ _ dL_law_813 hF hd242 X hP
set_option maxHeartbeats 2000000 in
theorem w_X0_law_911 (hlt : l.stackTraces = false) {L : Nat} {xs : Nat → Int32} {Zq : State → Prop} (hsc : SC s A ad0 L xs) {BC BS : Nat} {Q : Int32 → GT → S → Prop} (hret : LRet p l e s m args below meth c D dA A L xs BC BS Q Zq) {k23 : Nat → Nat → Nat → Int32 → GT → S → Nat → Nat → Prop} (hk23 : ∀ (x1 : Nat) (x2 : Nat) (x3 : Nat) (x4 : Int32) (g : GT) (ι : S) (uc us : Nat) (ad : Nat → Nat) (H : Heap) (locs : List Loc) (ls : Array Slot), k23 x1 x2 x3 x4 g ι uc us → CX p s m args c meth cL_law 7 (some .boolean) RX0 D dA ad A → PW D dA A s.heap ad (HS g ι) H locs → HA ad0 g0 ad g → LH ad ls 7 [(0, pX 140), (1, pX x1), (2, pX x2), (3, pX x3), (4, iX x4)] → W p l e ({ frames := 8192, cells := BC, slots := BS, locals := 100000 } : Room) s m args below meth c H locs (uc) (us) Zq (F0 m 23 ls [])) : ∀ (x1 : Nat) (x2 : Nat) (x3 : Nat) (x4 : Int32) (g : GT) (ι : S) (uc us : Nat) (ad : Nat → Nat) (H : Heap) (locs : List Loc) (ls : Array Slot), P_X0_law_911 L xs BC BS Q k23 x1 x2 x3 x4 g ι uc us → CX p s m args c meth cL_law 7 (some .boolean) RX0 D dA ad A → PW D dA A s.heap ad (HS g ι) H locs → HA ad0 g0 ad g → LH ad ls 7 [(0, pX 140), (1, pX x1), (2, pX x2), (3, pX x3), (4, iX x4)] → W p l e ({ frames := 8192, cells := BC, slots := BS, locals := 100000 } : Room) s m args below meth c H locs (uc) (us) Zq (F0 m 911 ls []) := by
  intro x1 x2 x3 x4 g ι uc us ad H locs ls hF X hP hag hl
  unfold P_X0_law_911 at hF
  refine lv_goto (tgt := 1690) X.1 X.2.1 dL_law_911 (by decide) ?_
  refine ph_iinc (v := x4 + 6) (k := 4) X hl dL_law_1690 rfl rfl (by decide) rfl (fun ls hl => ?_)
  refine lv_goto (tgt := 23) X.1 X.2.1 dL_law_1693 (by decide) ?_
  exact hk23 _ _ _ _ _ _ _ _ _ _ _ _ hF X hP hag (lh_sub hl [1, 2, 3, 4, 0] rfl)
set_option maxHeartbeats 2000000 in
theorem w_X0_law_834 (hlt : l.stackTraces = false) {L : Nat} {xs : Nat → Int32} {Zq : State → Prop} (hsc : SC s A ad0 L xs) {BC BS : Nat} {Q : Int32 → GT → S → Prop} (hret : LRet p l e s m args below meth c D dA A L xs BC BS Q Zq) {k23 : Nat → Nat → Nat → Int32 → GT → S → Nat → Nat → Prop} (hk23 : ∀ (x1 : Nat) (x2 : Nat) (x3 : Nat) (x4 : Int32) (g : GT) (ι : S) (uc us : Nat) (ad : Nat → Nat) (H : Heap) (locs : List Loc) (ls : Array Slot), k23 x1 x2 x3 x4 g ι uc us → CX p s m args c meth cL_law 7 (some .boolean) RX0 D dA ad A → PW D dA A s.heap ad (HS g ι) H locs → HA ad0 g0 ad g → LH ad ls 7 [(0, pX 140), (1, pX x1), (2, pX x2), (3, pX x3), (4, iX x4)] → W p l e ({ frames := 8192, cells := BC, slots := BS, locals := 100000 } : Room) s m args below meth c H locs (uc) (us) Zq (F0 m 23 ls [])) : ∀ (x1 : Nat) (x2 : Nat) (x3 : Nat) (x4 : Int32) (g : GT) (ι : S) (uc us : Nat) (ad : Nat → Nat) (H : Heap) (locs : List Loc) (ls : Array Slot), P_X0_law_834 L xs BC BS Q k23 x1 x2 x3 x4 g ι uc us → CX p s m args c meth cL_law 7 (some .boolean) RX0 D dA ad A → PW D dA A s.heap ad (HS g ι) H locs → HA ad0 g0 ad g → LH ad ls 7 [(0, pX 140), (1, pX x1), (2, pX x2), (3, pX x3), (4, iX x4)] → W p l e ({ frames := 8192, cells := BC, slots := BS, locals := 100000 } : Room) s m args below meth c H locs (uc) (us) Zq (F0 m 834 ls []) := by
  intro x1 x2 x3 x4 g ι uc us ad H locs ls hF X hP hag hl
  unfold P_X0_law_834 at hF
  refine ph_aload_n (n := 1) X hl dL_law_834 rfl rfl ?_
  refine ph_aload_n (n := 0) X hl dL_law_835 rfl rfl ?_
  refine ph_iload (n := 4) X hl dL_law_836 rfl ?_
  refine lv_iconst (v := 1) X.1 X.2.1 dL_law_838 (by decide) ?_
  refine lv_iadd X.1 X.2.1 dL_law_839 ?_
  obtain ⟨hr260, hF⟩ := hF
  refine hl_sld X hP (sc_ad hsc (hag.2 140 (by omega))) hr260 (k := (x4 + 1).toNatClampNeg) rfl dL_law_840 ?_
  refine ph_aload_n (n := 0) X hl dL_law_841 rfl rfl ?_
  refine ph_iload (n := 4) X hl dL_law_842 rfl ?_
  refine lv_iconst (v := 2) X.1 X.2.1 dL_law_844 (by decide) ?_
  refine lv_iadd X.1 X.2.1 dL_law_845 ?_
  obtain ⟨hr261, hF⟩ := hF
  refine hl_sld X hP (sc_ad hsc (hag.2 140 (by omega))) hr261 (k := (x4 + 2).toNatClampNeg) rfl dL_law_846 ?_
  refine ph_aload_n (n := 0) X hl dL_law_847 rfl rfl ?_
  refine ph_iload (n := 4) X hl dL_law_848 rfl ?_
  refine lv_iconst (v := 3) X.1 X.2.1 dL_law_850 (by decide) ?_
  refine lv_iadd X.1 X.2.1 dL_law_851 ?_
  obtain ⟨hr262, hF⟩ := hF
  refine hl_sld X hP (sc_ad hsc (hag.2 140 (by omega))) hr262 (k := (x4 + 3).toNatClampNeg) rfl dL_law_852 ?_
  refine ph_aload_n (n := 3) X hl dL_law_853 rfl rfl ?_
  obtain ⟨hx263, hF⟩ := hF
  obtain ⟨hx264, hF⟩ := hF
  obtain ⟨hx265, hF⟩ := hF
  obtain ⟨hd266, hF⟩ := hF
  refine hl_callW [pX x1, iX (xs ((x4 + 1).toNatClampNeg)), iX (xs ((x4 + 2).toNatClampNeg)), iX (xs ((x4 + 3).toNatClampNeg)), pX x3] [] X hP (met_X0_lies l D dA ad hlt _ _ _ hF) (vx_cwSW 5 X.2.2.2.2.1 (lw_SW q1630 q1631 q97 q1632) rfl rfl rfl (by decide +kernel) ⟨Nat.le_of_ble_eq_true rfl, Nat.le_of_ble_eq_true rfl⟩) rfl hag hl (ltlp (ltk (by decide)) (ltlp hx265 (ltlp hx264 (ltlp hx263 (ltli ltln))))) ltsn (k8 := 0) (cs0 (k := 0)) (by decide) hd266 dL_law_854 rfl (fun r270 ad g267 ι268 H locs hF X hP hag he269 hl => ?_)
  show W p l e ({ frames := 8192, cells := BC, slots := BS, locals := 100000 } : Room) s m args below meth c H locs (uc + 3) (us + 18) Zq (F0 m 857 ls [.int r270])
  refine ph_istore X hl dL_law_857 (by decide) rfl (fun ls hl => ?_)
  refine ph_aload_n (n := 3) X hl dL_law_859 rfl rfl ?_
  refine ph_aload_n (n := 1) X hl dL_law_860 rfl rfl ?_
  refine ph_iload (n := 5) X hl dL_law_861 rfl ?_
  refine lv_iconst (v := 1) X.1 X.2.1 dL_law_863 (by decide) ?_
  refine lv_iadd X.1 X.2.1 dL_law_864 ?_
  obtain ⟨hr271, hF⟩ := hF
  refine hl_sld X hP (sc_ad hsc (hag.2 140 (by omega))) hr271 (k := (x4 + 1).toNatClampNeg) rfl dL_law_865 ?_
  refine ph_aload_n (n := 1) X hl dL_law_866 rfl rfl ?_
  refine ph_iload (n := 5) X hl dL_law_867 rfl ?_
  refine lv_iconst (v := 2) X.1 X.2.1 dL_law_869 (by decide) ?_
  refine lv_iadd X.1 X.2.1 dL_law_870 ?_
  obtain ⟨hr272, hF⟩ := hF
  refine hl_sld X hP (sc_ad hsc (hag.2 140 (by omega))) hr272 (k := (x4 + 2).toNatClampNeg) rfl dL_law_871 ?_
  refine ph_aload_n (n := 1) X hl dL_law_872 rfl rfl ?_
  refine ph_iload (n := 5) X hl dL_law_873 rfl ?_
  refine lv_iconst (v := 3) X.1 X.2.1 dL_law_875 (by decide) ?_
  refine lv_iadd X.1 X.2.1 dL_law_876 ?_
  obtain ⟨hr273, hF⟩ := hF
  refine hl_sld X hP (sc_ad hsc (hag.2 140 (by omega))) hr273 (k := (x4 + 3).toNatClampNeg) rfl dL_law_877 ?_
  obtain ⟨hT274, hF⟩ := hF
  refine hg_callTi [xs ((x4 + 1).toNatClampNeg), xs ((x4 + 2).toNatClampNeg), xs ((x4 + 3).toNatClampNeg)] X hP hT274 (met_X8_lies l D dA (adT ad x2) _ _ hF) (cwV 3 X.2.2.2.2.1 (lw_V q2268 q2269 q2270 q126 q2271) rfl rfl rfl (by decide +kernel) ⟨Nat.le_of_ble_eq_true rfl, Nat.le_of_ble_eq_true rfl⟩) rfl hl (k8 := 0) (cs0 (k := 0)) (by decide) hd266 dL_law_878 rfl (fun r275 σ276 H locs hF hP => ?_)
  show W p l e ({ frames := 8192, cells := BC, slots := BS, locals := 100000 } : Room) s m args below meth c H locs (uc + 3) (us + 18) Zq (F0 m 881 ls [.int r275])
  refine ph_istore X hl dL_law_881 (by decide) rfl (fun ls hl => ?_)
  refine ph_aload_n (n := 4) X hl dL_law_883 rfl rfl ?_
  obtain ⟨hT277, hF⟩ := hF
  refine hg_callTi [] X hP hT277 (met_X8_thrown l D dA (adT ad x2) _ _ hF) (cwV 0 X.2.2.2.2.1 (lw_V q1990 q1991 q1992 q126 q1993) rfl rfl rfl (by decide +kernel) ⟨Nat.le_of_ble_eq_true rfl, Nat.le_of_ble_eq_true rfl⟩) rfl hl (k8 := 0) (cs0 (k := 0)) (by decide) hd266 dL_law_884 rfl (fun r278 σ279 H locs hF hP => ?_)
  show W p l e ({ frames := 8192, cells := BC, slots := BS, locals := 100000 } : Room) s m args below meth c H locs (uc + 3) (us + 18) Zq (F0 m 887 ls [.int r278])
  refine ph_iload (n := 1) X hl dL_law_887 rfl ?_
  refine lv_icmp_eq (tgt := 894) X.1 X.2.1 dL_law_889 (by decide) (fun c284 => ?_) (fun c284 => ?_)
  · have hF := hF.1 c284
    refine ph_iload (n := 1) X hl dL_law_894 rfl ?_
    refine lv_if_ne (tgt := 911) X.1 X.2.1 dL_law_896 (by decide) (fun c283 => ?_) (fun c283 => ?_)
    · have hF := hF.1 c283
      exact w_X0_law_911 hlt hsc hret hk23 _ _ _ _ _ _ _ _ _ _ _ _ hF X hP hag (lh_sub hl [2, 3, 4, 5, 6] rfl)
    · have hF := hF.2 c283
      refine ph_aload_n (n := 5) X hl dL_law_899 rfl rfl ?_
      refine lv_iconst (v := 0) X.1 X.2.1 dL_law_900 (by decide) ?_
      obtain ⟨hm280, hF⟩ := hF
      obtain ⟨hr281, hF⟩ := hF
      refine hl_lald X hP hm280 hr281 (k := 0) (by decide) dL_law_901 ?_
      refine ph_iload (n := 0) X hl dL_law_902 rfl ?_
      refine lv_i2l X.1 X.2.1 dL_law_904 rfl ?_
      refine W.lcmp X.1 X.2.1 dL_law_905 ?_
      refine lv_if_eq (tgt := 911) X.1 X.2.1 dL_law_906 (by decide) (fun c282 => ?_) (fun c282 => ?_)
      · have hF := hF.1 c282
        exact w_X0_law_911 hlt hsc hret hk23 _ _ _ _ _ _ _ _ _ _ _ _ hF X hP hag (lh_sub hl [2, 3, 4, 5, 6] rfl)
      · have hF := hF.2 c282
        refine lv_iconst (v := 0) X.1 X.2.1 dL_law_909 (by decide) ?_
        exact hret _ _ _ _ _ _ _ _ _ _ dL_law_910 hF hd266 X hP
  · have hF := hF.2 c284
    refine lv_iconst (v := 0) X.1 X.2.1 dL_law_892 (by decide) ?_
    exact hret _ _ _ _ _ _ _ _ _ _ dL_law_893 hF hd266 X hP
set_option maxHeartbeats 2000000 in
theorem w_X0_law_979 (hlt : l.stackTraces = false) {L : Nat} {xs : Nat → Int32} {Zq : State → Prop} (hsc : SC s A ad0 L xs) {BC BS : Nat} {Q : Int32 → GT → S → Prop} (hret : LRet p l e s m args below meth c D dA A L xs BC BS Q Zq) {k23 : Nat → Nat → Nat → Int32 → GT → S → Nat → Nat → Prop} (hk23 : ∀ (x1 : Nat) (x2 : Nat) (x3 : Nat) (x4 : Int32) (g : GT) (ι : S) (uc us : Nat) (ad : Nat → Nat) (H : Heap) (locs : List Loc) (ls : Array Slot), k23 x1 x2 x3 x4 g ι uc us → CX p s m args c meth cL_law 7 (some .boolean) RX0 D dA ad A → PW D dA A s.heap ad (HS g ι) H locs → HA ad0 g0 ad g → LH ad ls 7 [(0, pX 140), (1, pX x1), (2, pX x2), (3, pX x3), (4, iX x4)] → W p l e ({ frames := 8192, cells := BC, slots := BS, locals := 100000 } : Room) s m args below meth c H locs (uc) (us) Zq (F0 m 23 ls [])) : ∀ (x1 : Nat) (x2 : Nat) (x3 : Nat) (x4 : Int32) (g : GT) (ι : S) (uc us : Nat) (ad : Nat → Nat) (H : Heap) (locs : List Loc) (ls : Array Slot), P_X0_law_979 L xs BC BS Q k23 x1 x2 x3 x4 g ι uc us → CX p s m args c meth cL_law 7 (some .boolean) RX0 D dA ad A → PW D dA A s.heap ad (HS g ι) H locs → HA ad0 g0 ad g → LH ad ls 7 [(0, pX 140), (1, pX x1), (2, pX x2), (3, pX x3), (4, iX x4)] → W p l e ({ frames := 8192, cells := BC, slots := BS, locals := 100000 } : Room) s m args below meth c H locs (uc) (us) Zq (F0 m 979 ls []) := by
  intro x1 x2 x3 x4 g ι uc us ad H locs ls hF X hP hag hl
  unfold P_X0_law_979 at hF
  refine lv_goto (tgt := 1690) X.1 X.2.1 dL_law_979 (by decide) ?_
  refine ph_iinc (v := x4 + 6) (k := 4) X hl dL_law_1690 rfl rfl (by decide) rfl (fun ls hl => ?_)
  refine lv_goto (tgt := 23) X.1 X.2.1 dL_law_1693 (by decide) ?_
  exact hk23 _ _ _ _ _ _ _ _ _ _ _ _ hF X hP hag (lh_sub hl [1, 2, 3, 4, 0] rfl)
set_option maxHeartbeats 2000000 in
theorem w_X0_law_914 (hlt : l.stackTraces = false) {L : Nat} {xs : Nat → Int32} {Zq : State → Prop} (hsc : SC s A ad0 L xs) {BC BS : Nat} {Q : Int32 → GT → S → Prop} (hret : LRet p l e s m args below meth c D dA A L xs BC BS Q Zq) {k23 : Nat → Nat → Nat → Int32 → GT → S → Nat → Nat → Prop} (hk23 : ∀ (x1 : Nat) (x2 : Nat) (x3 : Nat) (x4 : Int32) (g : GT) (ι : S) (uc us : Nat) (ad : Nat → Nat) (H : Heap) (locs : List Loc) (ls : Array Slot), k23 x1 x2 x3 x4 g ι uc us → CX p s m args c meth cL_law 7 (some .boolean) RX0 D dA ad A → PW D dA A s.heap ad (HS g ι) H locs → HA ad0 g0 ad g → LH ad ls 7 [(0, pX 140), (1, pX x1), (2, pX x2), (3, pX x3), (4, iX x4)] → W p l e ({ frames := 8192, cells := BC, slots := BS, locals := 100000 } : Room) s m args below meth c H locs (uc) (us) Zq (F0 m 23 ls [])) : ∀ (x1 : Nat) (x2 : Nat) (x3 : Nat) (x4 : Int32) (g : GT) (ι : S) (uc us : Nat) (ad : Nat → Nat) (H : Heap) (locs : List Loc) (ls : Array Slot), P_X0_law_914 L xs BC BS Q k23 x1 x2 x3 x4 g ι uc us → CX p s m args c meth cL_law 7 (some .boolean) RX0 D dA ad A → PW D dA A s.heap ad (HS g ι) H locs → HA ad0 g0 ad g → LH ad ls 7 [(0, pX 140), (1, pX x1), (2, pX x2), (3, pX x3), (4, iX x4)] → W p l e ({ frames := 8192, cells := BC, slots := BS, locals := 100000 } : Room) s m args below meth c H locs (uc) (us) Zq (F0 m 914 ls []) := by
  intro x1 x2 x3 x4 g ι uc us ad H locs ls hF X hP hag hl
  unfold P_X0_law_914 at hF
  refine ph_aload_n (n := 1) X hl dL_law_914 rfl rfl ?_
  refine ph_aload_n (n := 0) X hl dL_law_915 rfl rfl ?_
  refine ph_iload (n := 4) X hl dL_law_916 rfl ?_
  refine lv_iconst (v := 1) X.1 X.2.1 dL_law_918 (by decide) ?_
  refine lv_iadd X.1 X.2.1 dL_law_919 ?_
  obtain ⟨hr285, hF⟩ := hF
  refine hl_sld X hP (sc_ad hsc (hag.2 140 (by omega))) hr285 (k := (x4 + 1).toNatClampNeg) rfl dL_law_920 ?_
  refine ph_aload_n (n := 0) X hl dL_law_921 rfl rfl ?_
  refine ph_iload (n := 4) X hl dL_law_922 rfl ?_
  refine lv_iconst (v := 2) X.1 X.2.1 dL_law_924 (by decide) ?_
  refine lv_iadd X.1 X.2.1 dL_law_925 ?_
  obtain ⟨hr286, hF⟩ := hF
  refine hl_sld X hP (sc_ad hsc (hag.2 140 (by omega))) hr286 (k := (x4 + 2).toNatClampNeg) rfl dL_law_926 ?_
  refine ph_aload_n (n := 3) X hl dL_law_927 rfl rfl ?_
  obtain ⟨hx287, hF⟩ := hF
  obtain ⟨hx288, hF⟩ := hF
  obtain ⟨hx289, hF⟩ := hF
  obtain ⟨hd290, hF⟩ := hF
  refine hl_callW [pX x1, iX (xs ((x4 + 1).toNatClampNeg)), iX (xs ((x4 + 2).toNatClampNeg)), pX x3] [] X hP (met_X0_turn l D dA ad hlt _ _ _ hF) (vx_cwSW 4 X.2.2.2.2.1 (lw_SW q1639 q1640 q97 q1641) rfl rfl rfl (by decide +kernel) ⟨Nat.le_of_ble_eq_true rfl, Nat.le_of_ble_eq_true rfl⟩) rfl hag hl (ltlp (ltk (by decide)) (ltlp hx289 (ltlp hx288 (ltlp hx287 (ltli ltln))))) ltsn (k8 := 0) (cs0 (k := 0)) (by decide) hd290 dL_law_928 rfl (fun r294 ad g291 ι292 H locs hF X hP hag he293 hl => ?_)
  show W p l e ({ frames := 8192, cells := BC, slots := BS, locals := 100000 } : Room) s m args below meth c H locs (uc + 2) (us + 12) Zq (F0 m 931 ls [.int r294])
  refine ph_istore X hl dL_law_931 (by decide) rfl (fun ls hl => ?_)
  refine ph_aload_n (n := 3) X hl dL_law_933 rfl rfl ?_
  refine ph_aload_n (n := 1) X hl dL_law_934 rfl rfl ?_
  refine ph_iload (n := 5) X hl dL_law_935 rfl ?_
  refine lv_iconst (v := 1) X.1 X.2.1 dL_law_937 (by decide) ?_
  refine lv_iadd X.1 X.2.1 dL_law_938 ?_
  obtain ⟨hr295, hF⟩ := hF
  refine hl_sld X hP (sc_ad hsc (hag.2 140 (by omega))) hr295 (k := (x4 + 1).toNatClampNeg) rfl dL_law_939 ?_
  refine ph_aload_n (n := 1) X hl dL_law_940 rfl rfl ?_
  refine ph_iload (n := 5) X hl dL_law_941 rfl ?_
  refine lv_iconst (v := 2) X.1 X.2.1 dL_law_943 (by decide) ?_
  refine lv_iadd X.1 X.2.1 dL_law_944 ?_
  obtain ⟨hr296, hF⟩ := hF
  refine hl_sld X hP (sc_ad hsc (hag.2 140 (by omega))) hr296 (k := (x4 + 2).toNatClampNeg) rfl dL_law_945 ?_
  obtain ⟨hT297, hF⟩ := hF
  refine hg_callTi [xs ((x4 + 1).toNatClampNeg), xs ((x4 + 2).toNatClampNeg)] X hP hT297 (met_X8_turn l D dA (adT ad x2) _ _ hF) (cwV 2 X.2.2.2.2.1 (lw_V q2272 q2273 q2274 q126 q2275) rfl rfl rfl (by decide +kernel) ⟨Nat.le_of_ble_eq_true rfl, Nat.le_of_ble_eq_true rfl⟩) rfl hl (k8 := 0) (cs0 (k := 0)) (by decide) hd290 dL_law_946 rfl (fun r298 σ299 H locs hF hP => ?_)
  show W p l e ({ frames := 8192, cells := BC, slots := BS, locals := 100000 } : Room) s m args below meth c H locs (uc + 2) (us + 12) Zq (F0 m 949 ls [.int r298])
  refine ph_istore X hl dL_law_949 (by decide) rfl (fun ls hl => ?_)
  refine ph_aload_n (n := 4) X hl dL_law_951 rfl rfl ?_
  obtain ⟨hT300, hF⟩ := hF
  refine hg_callTi [] X hP hT300 (met_X8_thrown l D dA (adT ad x2) _ _ hF) (cwV 0 X.2.2.2.2.1 (lw_V q1990 q1991 q1992 q126 q1993) rfl rfl rfl (by decide +kernel) ⟨Nat.le_of_ble_eq_true rfl, Nat.le_of_ble_eq_true rfl⟩) rfl hl (k8 := 0) (cs0 (k := 0)) (by decide) hd290 dL_law_952 rfl (fun r301 σ302 H locs hF hP => ?_)
  show W p l e ({ frames := 8192, cells := BC, slots := BS, locals := 100000 } : Room) s m args below meth c H locs (uc + 2) (us + 12) Zq (F0 m 955 ls [.int r301])
  refine ph_iload (n := 1) X hl dL_law_955 rfl ?_
  refine lv_icmp_eq (tgt := 962) X.1 X.2.1 dL_law_957 (by decide) (fun c307 => ?_) (fun c307 => ?_)
  · have hF := hF.1 c307
    refine ph_iload (n := 1) X hl dL_law_962 rfl ?_
    refine lv_if_ne (tgt := 979) X.1 X.2.1 dL_law_964 (by decide) (fun c306 => ?_) (fun c306 => ?_)
    · have hF := hF.1 c306
      exact w_X0_law_979 hlt hsc hret hk23 _ _ _ _ _ _ _ _ _ _ _ _ hF X hP hag (lh_sub hl [2, 3, 4, 5, 6] rfl)
    · have hF := hF.2 c306
      refine ph_aload_n (n := 5) X hl dL_law_967 rfl rfl ?_
      refine lv_iconst (v := 0) X.1 X.2.1 dL_law_968 (by decide) ?_
      obtain ⟨hm303, hF⟩ := hF
      obtain ⟨hr304, hF⟩ := hF
      refine hl_lald X hP hm303 hr304 (k := 0) (by decide) dL_law_969 ?_
      refine ph_iload (n := 0) X hl dL_law_970 rfl ?_
      refine lv_i2l X.1 X.2.1 dL_law_972 rfl ?_
      refine W.lcmp X.1 X.2.1 dL_law_973 ?_
      refine lv_if_eq (tgt := 979) X.1 X.2.1 dL_law_974 (by decide) (fun c305 => ?_) (fun c305 => ?_)
      · have hF := hF.1 c305
        exact w_X0_law_979 hlt hsc hret hk23 _ _ _ _ _ _ _ _ _ _ _ _ hF X hP hag (lh_sub hl [2, 3, 4, 5, 6] rfl)
      · have hF := hF.2 c305
        refine lv_iconst (v := 0) X.1 X.2.1 dL_law_977 (by decide) ?_
        exact hret _ _ _ _ _ _ _ _ _ _ dL_law_978 hF hd290 X hP
  · have hF := hF.2 c307
    refine lv_iconst (v := 0) X.1 X.2.1 dL_law_960 (by decide) ?_
    exact hret _ _ _ _ _ _ _ _ _ _ dL_law_961 hF hd290 X hP
set_option maxHeartbeats 2000000 in
theorem w_X0_law_982 (hlt : l.stackTraces = false) {L : Nat} {xs : Nat → Int32} {Zq : State → Prop} (hsc : SC s A ad0 L xs) {BC BS : Nat} {Q : Int32 → GT → S → Prop} (hret : LRet p l e s m args below meth c D dA A L xs BC BS Q Zq) {k23 : Nat → Nat → Nat → Int32 → GT → S → Nat → Nat → Prop} (hk23 : ∀ (x1 : Nat) (x2 : Nat) (x3 : Nat) (x4 : Int32) (g : GT) (ι : S) (uc us : Nat) (ad : Nat → Nat) (H : Heap) (locs : List Loc) (ls : Array Slot), k23 x1 x2 x3 x4 g ι uc us → CX p s m args c meth cL_law 7 (some .boolean) RX0 D dA ad A → PW D dA A s.heap ad (HS g ι) H locs → HA ad0 g0 ad g → LH ad ls 7 [(0, pX 140), (1, pX x1), (2, pX x2), (3, pX x3), (4, iX x4)] → W p l e ({ frames := 8192, cells := BC, slots := BS, locals := 100000 } : Room) s m args below meth c H locs (uc) (us) Zq (F0 m 23 ls [])) : ∀ (x1 : Nat) (x2 : Nat) (x3 : Nat) (x4 : Int32) (g : GT) (ι : S) (uc us : Nat) (ad : Nat → Nat) (H : Heap) (locs : List Loc) (ls : Array Slot), P_X0_law_982 L xs BC BS Q k23 x1 x2 x3 x4 g ι uc us → CX p s m args c meth cL_law 7 (some .boolean) RX0 D dA ad A → PW D dA A s.heap ad (HS g ι) H locs → HA ad0 g0 ad g → LH ad ls 7 [(0, pX 140), (1, pX x1), (2, pX x2), (3, pX x3), (4, iX x4)] → W p l e ({ frames := 8192, cells := BC, slots := BS, locals := 100000 } : Room) s m args below meth c H locs (uc) (us) Zq (F0 m 982 ls []) := by
  intro x1 x2 x3 x4 g ι uc us ad H locs ls hF X hP hag hl
  unfold P_X0_law_982 at hF
  refine ph_aload_n (n := 1) X hl dL_law_982 rfl rfl ?_
  obtain ⟨hd308, hF⟩ := hF
  obtain ⟨hm312, hF⟩ := hF
  refine cg_callVi 1 [] X hP hm312 (met_X1_orders l D dA ad g _ _ hF) (cwV 0 X.2.2.2.2.1 (lw_V q932 q933 q934 q98 q935) rfl rfl rfl (by decide +kernel) ⟨Nat.le_of_ble_eq_true rfl, Nat.le_of_ble_eq_true rfl⟩) rfl hl (k8 := 0) (cs0 (k := 0)) (by decide) hd308 dL_law_983 rfl (fun r309 ι310 H locs hF hP => ?_)
  refine ph_aload_n (n := 2) X hl dL_law_986 rfl rfl ?_
  obtain ⟨hT313, hF⟩ := hF
  refine hg_callTi [] X hP hT313 (met_X8_orders l D dA (adT ad x2) _ _ hF) (cwV 0 X.2.2.2.2.1 (lw_V q2276 q2277 q2278 q126 q2279) rfl rfl rfl (by decide +kernel) ⟨Nat.le_of_ble_eq_true rfl, Nat.le_of_ble_eq_true rfl⟩) rfl hl (k8 := 1) (csi (cs0 (k := 0))) (by decide) hd308 dL_law_987 rfl (fun r314 σ315 H locs hF hP => ?_)
  show W p l e ({ frames := 8192, cells := BC, slots := BS, locals := 100000 } : Room) s m args below meth c H locs (uc) (us) Zq (F0 m 990 ls [.int r314, .int r309])
  refine lv_icmp_eq (tgt := 1690) X.1 X.2.1 dL_law_990 (by decide) (fun c316 => ?_) (fun c316 => ?_)
  · have hF := hF.1 c316
    refine ph_iinc (v := x4 + 6) (k := 4) X hl dL_law_1690 rfl rfl (by decide) rfl (fun ls hl => ?_)
    refine lv_goto (tgt := 23) X.1 X.2.1 dL_law_1693 (by decide) ?_
    exact hk23 _ _ _ _ _ _ _ _ _ _ _ _ hF X hP hag (lh_sub hl [1, 2, 3, 4, 0] rfl)
  · have hF := hF.2 c316
    refine lv_iconst (v := 0) X.1 X.2.1 dL_law_993 (by decide) ?_
    exact hret _ _ _ _ _ _ _ _ _ _ dL_law_994 hF hd308 X hP
set_option maxHeartbeats 2000000 in
theorem w_X0_law_995 (hlt : l.stackTraces = false) {L : Nat} {xs : Nat → Int32} {Zq : State → Prop} (hsc : SC s A ad0 L xs) {BC BS : Nat} {Q : Int32 → GT → S → Prop} (hret : LRet p l e s m args below meth c D dA A L xs BC BS Q Zq) {k23 : Nat → Nat → Nat → Int32 → GT → S → Nat → Nat → Prop} (hk23 : ∀ (x1 : Nat) (x2 : Nat) (x3 : Nat) (x4 : Int32) (g : GT) (ι : S) (uc us : Nat) (ad : Nat → Nat) (H : Heap) (locs : List Loc) (ls : Array Slot), k23 x1 x2 x3 x4 g ι uc us → CX p s m args c meth cL_law 7 (some .boolean) RX0 D dA ad A → PW D dA A s.heap ad (HS g ι) H locs → HA ad0 g0 ad g → LH ad ls 7 [(0, pX 140), (1, pX x1), (2, pX x2), (3, pX x3), (4, iX x4)] → W p l e ({ frames := 8192, cells := BC, slots := BS, locals := 100000 } : Room) s m args below meth c H locs (uc) (us) Zq (F0 m 23 ls [])) : ∀ (x1 : Nat) (x2 : Nat) (x3 : Nat) (x4 : Int32) (g : GT) (ι : S) (uc us : Nat) (ad : Nat → Nat) (H : Heap) (locs : List Loc) (ls : Array Slot), P_X0_law_995 L xs BC BS Q k23 x1 x2 x3 x4 g ι uc us → CX p s m args c meth cL_law 7 (some .boolean) RX0 D dA ad A → PW D dA A s.heap ad (HS g ι) H locs → HA ad0 g0 ad g → LH ad ls 7 [(0, pX 140), (1, pX x1), (2, pX x2), (3, pX x3), (4, iX x4)] → W p l e ({ frames := 8192, cells := BC, slots := BS, locals := 100000 } : Room) s m args below meth c H locs (uc) (us) Zq (F0 m 995 ls []) := by
  intro x1 x2 x3 x4 g ι uc us ad H locs ls hF X hP hag hl
  unfold P_X0_law_995 at hF
  refine ph_aload_n (n := 1) X hl dL_law_995 rfl rfl ?_
  obtain ⟨hd317, hF⟩ := hF
  obtain ⟨hm321, hF⟩ := hF
  refine cg_callVi 1 [] X hP hm321 (met_X1_order l D dA ad g _ _ hF) (cwV 0 X.2.2.2.2.1 (lw_V q952 q953 q954 q98 q955) rfl rfl rfl (by decide +kernel) ⟨Nat.le_of_ble_eq_true rfl, Nat.le_of_ble_eq_true rfl⟩) rfl hl (k8 := 0) (cs0 (k := 0)) (by decide) hd317 dL_law_996 rfl (fun r318 ι319 H locs hF hP => ?_)
  refine ph_aload_n (n := 2) X hl dL_law_999 rfl rfl ?_
  obtain ⟨hT322, hF⟩ := hF
  refine hg_callTi [] X hP hT322 (met_X8_order l D dA (adT ad x2) _ _ hF) (cwV 0 X.2.2.2.2.1 (lw_V q2296 q2297 q2298 q126 q2299) rfl rfl rfl (by decide +kernel) ⟨Nat.le_of_ble_eq_true rfl, Nat.le_of_ble_eq_true rfl⟩) rfl hl (k8 := 1) (csi (cs0 (k := 0))) (by decide) hd317 dL_law_1000 rfl (fun r323 σ324 H locs hF hP => ?_)
  show W p l e ({ frames := 8192, cells := BC, slots := BS, locals := 100000 } : Room) s m args below meth c H locs (uc) (us) Zq (F0 m 1003 ls [.int r323, .int r318])
  refine lv_icmp_eq (tgt := 1690) X.1 X.2.1 dL_law_1003 (by decide) (fun c325 => ?_) (fun c325 => ?_)
  · have hF := hF.1 c325
    refine ph_iinc (v := x4 + 6) (k := 4) X hl dL_law_1690 rfl rfl (by decide) rfl (fun ls hl => ?_)
    refine lv_goto (tgt := 23) X.1 X.2.1 dL_law_1693 (by decide) ?_
    exact hk23 _ _ _ _ _ _ _ _ _ _ _ _ hF X hP hag (lh_sub hl [1, 2, 3, 4, 0] rfl)
  · have hF := hF.2 c325
    refine lv_iconst (v := 0) X.1 X.2.1 dL_law_1006 (by decide) ?_
    exact hret _ _ _ _ _ _ _ _ _ _ dL_law_1007 hF hd317 X hP
set_option maxHeartbeats 2000000 in
theorem w_X0_law_1061 (hlt : l.stackTraces = false) {L : Nat} {xs : Nat → Int32} {Zq : State → Prop} (hsc : SC s A ad0 L xs) {BC BS : Nat} {Q : Int32 → GT → S → Prop} (hret : LRet p l e s m args below meth c D dA A L xs BC BS Q Zq) {k23 : Nat → Nat → Nat → Int32 → GT → S → Nat → Nat → Prop} (hk23 : ∀ (x1 : Nat) (x2 : Nat) (x3 : Nat) (x4 : Int32) (g : GT) (ι : S) (uc us : Nat) (ad : Nat → Nat) (H : Heap) (locs : List Loc) (ls : Array Slot), k23 x1 x2 x3 x4 g ι uc us → CX p s m args c meth cL_law 7 (some .boolean) RX0 D dA ad A → PW D dA A s.heap ad (HS g ι) H locs → HA ad0 g0 ad g → LH ad ls 7 [(0, pX 140), (1, pX x1), (2, pX x2), (3, pX x3), (4, iX x4)] → W p l e ({ frames := 8192, cells := BC, slots := BS, locals := 100000 } : Room) s m args below meth c H locs (uc) (us) Zq (F0 m 23 ls [])) : ∀ (x1 : Nat) (x2 : Nat) (x3 : Nat) (x4 : Int32) (g : GT) (ι : S) (uc us : Nat) (ad : Nat → Nat) (H : Heap) (locs : List Loc) (ls : Array Slot), P_X0_law_1061 L xs BC BS Q k23 x1 x2 x3 x4 g ι uc us → CX p s m args c meth cL_law 7 (some .boolean) RX0 D dA ad A → PW D dA A s.heap ad (HS g ι) H locs → HA ad0 g0 ad g → LH ad ls 7 [(0, pX 140), (1, pX x1), (2, pX x2), (3, pX x3), (4, iX x4)] → W p l e ({ frames := 8192, cells := BC, slots := BS, locals := 100000 } : Room) s m args below meth c H locs (uc) (us) Zq (F0 m 1061 ls []) := by
  intro x1 x2 x3 x4 g ι uc us ad H locs ls hF X hP hag hl
  unfold P_X0_law_1061 at hF
  refine lv_goto (tgt := 1690) X.1 X.2.1 dL_law_1061 (by decide) ?_
  refine ph_iinc (v := x4 + 6) (k := 4) X hl dL_law_1690 rfl rfl (by decide) rfl (fun ls hl => ?_)
  refine lv_goto (tgt := 23) X.1 X.2.1 dL_law_1693 (by decide) ?_
  exact hk23 _ _ _ _ _ _ _ _ _ _ _ _ hF X hP hag (lh_sub hl [1, 2, 3, 4, 0] rfl)
set_option maxHeartbeats 2000000 in
theorem w_X0_law_1008 (hlt : l.stackTraces = false) {L : Nat} {xs : Nat → Int32} {Zq : State → Prop} (hsc : SC s A ad0 L xs) {BC BS : Nat} {Q : Int32 → GT → S → Prop} (hret : LRet p l e s m args below meth c D dA A L xs BC BS Q Zq) {k23 : Nat → Nat → Nat → Int32 → GT → S → Nat → Nat → Prop} (hk23 : ∀ (x1 : Nat) (x2 : Nat) (x3 : Nat) (x4 : Int32) (g : GT) (ι : S) (uc us : Nat) (ad : Nat → Nat) (H : Heap) (locs : List Loc) (ls : Array Slot), k23 x1 x2 x3 x4 g ι uc us → CX p s m args c meth cL_law 7 (some .boolean) RX0 D dA ad A → PW D dA A s.heap ad (HS g ι) H locs → HA ad0 g0 ad g → LH ad ls 7 [(0, pX 140), (1, pX x1), (2, pX x2), (3, pX x3), (4, iX x4)] → W p l e ({ frames := 8192, cells := BC, slots := BS, locals := 100000 } : Room) s m args below meth c H locs (uc) (us) Zq (F0 m 23 ls [])) : ∀ (x1 : Nat) (x2 : Nat) (x3 : Nat) (x4 : Int32) (g : GT) (ι : S) (uc us : Nat) (ad : Nat → Nat) (H : Heap) (locs : List Loc) (ls : Array Slot), P_X0_law_1008 L xs BC BS Q k23 x1 x2 x3 x4 g ι uc us → CX p s m args c meth cL_law 7 (some .boolean) RX0 D dA ad A → PW D dA A s.heap ad (HS g ι) H locs → HA ad0 g0 ad g → LH ad ls 7 [(0, pX 140), (1, pX x1), (2, pX x2), (3, pX x3), (4, iX x4)] → W p l e ({ frames := 8192, cells := BC, slots := BS, locals := 100000 } : Room) s m args below meth c H locs (uc) (us) Zq (F0 m 1008 ls []) := by
  intro x1 x2 x3 x4 g ι uc us ad H locs ls hF X hP hag hl
  unfold P_X0_law_1008 at hF
  refine ph_aload_n (n := 1) X hl dL_law_1008 rfl rfl ?_
  refine ph_aload_n (n := 0) X hl dL_law_1009 rfl rfl ?_
  refine ph_iload (n := 4) X hl dL_law_1010 rfl ?_
  refine lv_iconst (v := 1) X.1 X.2.1 dL_law_1012 (by decide) ?_
  refine lv_iadd X.1 X.2.1 dL_law_1013 ?_
  obtain ⟨hr326, hF⟩ := hF
  refine hl_sld X hP (sc_ad hsc (hag.2 140 (by omega))) hr326 (k := (x4 + 1).toNatClampNeg) rfl dL_law_1014 ?_
  refine ph_aload_n (n := 3) X hl dL_law_1015 rfl rfl ?_
  obtain ⟨hx327, hF⟩ := hF
  obtain ⟨hx328, hF⟩ := hF
  obtain ⟨hx329, hF⟩ := hF
  obtain ⟨hd330, hF⟩ := hF
  refine hl_callW [pX x1, iX (xs ((x4 + 1).toNatClampNeg)), pX x3] [] X hP (met_X0_kept l D dA ad hlt _ _ _ hF) (vx_cwSW 3 X.2.2.2.2.1 (lw_SW q1646 q1647 q97 q1648) rfl rfl rfl (by decide +kernel) ⟨Nat.le_of_ble_eq_true rfl, Nat.le_of_ble_eq_true rfl⟩) rfl hag hl (ltlp (ltk (by decide)) (ltlp hx329 (ltlp hx328 (ltlp hx327 (ltli ltln))))) ltsn (k8 := 0) (cs0 (k := 0)) (by decide) hd330 dL_law_1016 rfl (fun r334 ad g331 ι332 H locs hF X hP hag he333 hl => ?_)
  show W p l e ({ frames := 8192, cells := BC, slots := BS, locals := 100000 } : Room) s m args below meth c H locs (uc + 1) (us + 6) Zq (F0 m 1019 ls [.int r334])
  refine ph_istore X hl dL_law_1019 (by decide) rfl (fun ls hl => ?_)
  refine ph_aload_n (n := 3) X hl dL_law_1021 rfl rfl ?_
  refine ph_aload_n (n := 1) X hl dL_law_1022 rfl rfl ?_
  refine ph_iload (n := 5) X hl dL_law_1023 rfl ?_
  refine lv_iconst (v := 1) X.1 X.2.1 dL_law_1025 (by decide) ?_
  refine lv_iadd X.1 X.2.1 dL_law_1026 ?_
  obtain ⟨hr335, hF⟩ := hF
  refine hl_sld X hP (sc_ad hsc (hag.2 140 (by omega))) hr335 (k := (x4 + 1).toNatClampNeg) rfl dL_law_1027 ?_
  obtain ⟨hT336, hF⟩ := hF
  refine hg_callTi [xs ((x4 + 1).toNatClampNeg)] X hP hT336 (met_X8_kept l D dA (adT ad x2) _ _ hF) (cwV 1 X.2.2.2.2.1 (lw_V q2304 q2305 q2306 q126 q2307) rfl rfl rfl (by decide +kernel) ⟨Nat.le_of_ble_eq_true rfl, Nat.le_of_ble_eq_true rfl⟩) rfl hl (k8 := 0) (cs0 (k := 0)) (by decide) hd330 dL_law_1028 rfl (fun r337 σ338 H locs hF hP => ?_)
  show W p l e ({ frames := 8192, cells := BC, slots := BS, locals := 100000 } : Room) s m args below meth c H locs (uc + 1) (us + 6) Zq (F0 m 1031 ls [.int r337])
  refine ph_istore X hl dL_law_1031 (by decide) rfl (fun ls hl => ?_)
  refine ph_aload_n (n := 4) X hl dL_law_1033 rfl rfl ?_
  obtain ⟨hT339, hF⟩ := hF
  refine hg_callTi [] X hP hT339 (met_X8_thrown l D dA (adT ad x2) _ _ hF) (cwV 0 X.2.2.2.2.1 (lw_V q1990 q1991 q1992 q126 q1993) rfl rfl rfl (by decide +kernel) ⟨Nat.le_of_ble_eq_true rfl, Nat.le_of_ble_eq_true rfl⟩) rfl hl (k8 := 0) (cs0 (k := 0)) (by decide) hd330 dL_law_1034 rfl (fun r340 σ341 H locs hF hP => ?_)
  show W p l e ({ frames := 8192, cells := BC, slots := BS, locals := 100000 } : Room) s m args below meth c H locs (uc + 1) (us + 6) Zq (F0 m 1037 ls [.int r340])
  refine ph_iload (n := 1) X hl dL_law_1037 rfl ?_
  refine lv_icmp_eq (tgt := 1044) X.1 X.2.1 dL_law_1039 (by decide) (fun c346 => ?_) (fun c346 => ?_)
  · have hF := hF.1 c346
    refine ph_iload (n := 1) X hl dL_law_1044 rfl ?_
    refine lv_if_ne (tgt := 1061) X.1 X.2.1 dL_law_1046 (by decide) (fun c345 => ?_) (fun c345 => ?_)
    · have hF := hF.1 c345
      exact w_X0_law_1061 hlt hsc hret hk23 _ _ _ _ _ _ _ _ _ _ _ _ hF X hP hag (lh_sub hl [2, 3, 4, 5, 6] rfl)
    · have hF := hF.2 c345
      refine ph_aload_n (n := 5) X hl dL_law_1049 rfl rfl ?_
      refine lv_iconst (v := 0) X.1 X.2.1 dL_law_1050 (by decide) ?_
      obtain ⟨hm342, hF⟩ := hF
      obtain ⟨hr343, hF⟩ := hF
      refine hl_lald X hP hm342 hr343 (k := 0) (by decide) dL_law_1051 ?_
      refine ph_iload (n := 0) X hl dL_law_1052 rfl ?_
      refine lv_i2l X.1 X.2.1 dL_law_1054 rfl ?_
      refine W.lcmp X.1 X.2.1 dL_law_1055 ?_
      refine lv_if_eq (tgt := 1061) X.1 X.2.1 dL_law_1056 (by decide) (fun c344 => ?_) (fun c344 => ?_)
      · have hF := hF.1 c344
        exact w_X0_law_1061 hlt hsc hret hk23 _ _ _ _ _ _ _ _ _ _ _ _ hF X hP hag (lh_sub hl [2, 3, 4, 5, 6] rfl)
      · have hF := hF.2 c344
        refine lv_iconst (v := 0) X.1 X.2.1 dL_law_1059 (by decide) ?_
        exact hret _ _ _ _ _ _ _ _ _ _ dL_law_1060 hF hd330 X hP
  · have hF := hF.2 c346
    refine lv_iconst (v := 0) X.1 X.2.1 dL_law_1042 (by decide) ?_
    exact hret _ _ _ _ _ _ _ _ _ _ dL_law_1043 hF hd330 X hP
set_option maxHeartbeats 2000000 in
theorem w_X0_law_1129 (hlt : l.stackTraces = false) {L : Nat} {xs : Nat → Int32} {Zq : State → Prop} (hsc : SC s A ad0 L xs) {BC BS : Nat} {Q : Int32 → GT → S → Prop} (hret : LRet p l e s m args below meth c D dA A L xs BC BS Q Zq) {k23 : Nat → Nat → Nat → Int32 → GT → S → Nat → Nat → Prop} (hk23 : ∀ (x1 : Nat) (x2 : Nat) (x3 : Nat) (x4 : Int32) (g : GT) (ι : S) (uc us : Nat) (ad : Nat → Nat) (H : Heap) (locs : List Loc) (ls : Array Slot), k23 x1 x2 x3 x4 g ι uc us → CX p s m args c meth cL_law 7 (some .boolean) RX0 D dA ad A → PW D dA A s.heap ad (HS g ι) H locs → HA ad0 g0 ad g → LH ad ls 7 [(0, pX 140), (1, pX x1), (2, pX x2), (3, pX x3), (4, iX x4)] → W p l e ({ frames := 8192, cells := BC, slots := BS, locals := 100000 } : Room) s m args below meth c H locs (uc) (us) Zq (F0 m 23 ls [])) : ∀ (x1 : Nat) (x2 : Nat) (x3 : Nat) (x4 : Int32) (g : GT) (ι : S) (uc us : Nat) (ad : Nat → Nat) (H : Heap) (locs : List Loc) (ls : Array Slot), P_X0_law_1129 L xs BC BS Q k23 x1 x2 x3 x4 g ι uc us → CX p s m args c meth cL_law 7 (some .boolean) RX0 D dA ad A → PW D dA A s.heap ad (HS g ι) H locs → HA ad0 g0 ad g → LH ad ls 7 [(0, pX 140), (1, pX x1), (2, pX x2), (3, pX x3), (4, iX x4)] → W p l e ({ frames := 8192, cells := BC, slots := BS, locals := 100000 } : Room) s m args below meth c H locs (uc) (us) Zq (F0 m 1129 ls []) := by
  intro x1 x2 x3 x4 g ι uc us ad H locs ls hF X hP hag hl
  unfold P_X0_law_1129 at hF
  refine lv_goto (tgt := 1690) X.1 X.2.1 dL_law_1129 (by decide) ?_
  refine ph_iinc (v := x4 + 6) (k := 4) X hl dL_law_1690 rfl rfl (by decide) rfl (fun ls hl => ?_)
  refine lv_goto (tgt := 23) X.1 X.2.1 dL_law_1693 (by decide) ?_
  exact hk23 _ _ _ _ _ _ _ _ _ _ _ _ hF X hP hag (lh_sub hl [1, 2, 3, 4, 0] rfl)
set_option maxHeartbeats 2000000 in
theorem w_X0_law_1064 (hlt : l.stackTraces = false) {L : Nat} {xs : Nat → Int32} {Zq : State → Prop} (hsc : SC s A ad0 L xs) {BC BS : Nat} {Q : Int32 → GT → S → Prop} (hret : LRet p l e s m args below meth c D dA A L xs BC BS Q Zq) {k23 : Nat → Nat → Nat → Int32 → GT → S → Nat → Nat → Prop} (hk23 : ∀ (x1 : Nat) (x2 : Nat) (x3 : Nat) (x4 : Int32) (g : GT) (ι : S) (uc us : Nat) (ad : Nat → Nat) (H : Heap) (locs : List Loc) (ls : Array Slot), k23 x1 x2 x3 x4 g ι uc us → CX p s m args c meth cL_law 7 (some .boolean) RX0 D dA ad A → PW D dA A s.heap ad (HS g ι) H locs → HA ad0 g0 ad g → LH ad ls 7 [(0, pX 140), (1, pX x1), (2, pX x2), (3, pX x3), (4, iX x4)] → W p l e ({ frames := 8192, cells := BC, slots := BS, locals := 100000 } : Room) s m args below meth c H locs (uc) (us) Zq (F0 m 23 ls [])) : ∀ (x1 : Nat) (x2 : Nat) (x3 : Nat) (x4 : Int32) (g : GT) (ι : S) (uc us : Nat) (ad : Nat → Nat) (H : Heap) (locs : List Loc) (ls : Array Slot), P_X0_law_1064 L xs BC BS Q k23 x1 x2 x3 x4 g ι uc us → CX p s m args c meth cL_law 7 (some .boolean) RX0 D dA ad A → PW D dA A s.heap ad (HS g ι) H locs → HA ad0 g0 ad g → LH ad ls 7 [(0, pX 140), (1, pX x1), (2, pX x2), (3, pX x3), (4, iX x4)] → W p l e ({ frames := 8192, cells := BC, slots := BS, locals := 100000 } : Room) s m args below meth c H locs (uc) (us) Zq (F0 m 1064 ls []) := by
  intro x1 x2 x3 x4 g ι uc us ad H locs ls hF X hP hag hl
  unfold P_X0_law_1064 at hF
  refine ph_aload_n (n := 1) X hl dL_law_1064 rfl rfl ?_
  refine ph_aload_n (n := 0) X hl dL_law_1065 rfl rfl ?_
  refine ph_iload (n := 4) X hl dL_law_1066 rfl ?_
  refine lv_iconst (v := 1) X.1 X.2.1 dL_law_1068 (by decide) ?_
  refine lv_iadd X.1 X.2.1 dL_law_1069 ?_
  obtain ⟨hr347, hF⟩ := hF
  refine hl_sld X hP (sc_ad hsc (hag.2 140 (by omega))) hr347 (k := (x4 + 1).toNatClampNeg) rfl dL_law_1070 ?_
  refine ph_aload_n (n := 0) X hl dL_law_1071 rfl rfl ?_
  refine ph_iload (n := 4) X hl dL_law_1072 rfl ?_
  refine lv_iconst (v := 2) X.1 X.2.1 dL_law_1074 (by decide) ?_
  refine lv_iadd X.1 X.2.1 dL_law_1075 ?_
  obtain ⟨hr348, hF⟩ := hF
  refine hl_sld X hP (sc_ad hsc (hag.2 140 (by omega))) hr348 (k := (x4 + 2).toNatClampNeg) rfl dL_law_1076 ?_
  refine ph_aload_n (n := 3) X hl dL_law_1077 rfl rfl ?_
  obtain ⟨hx349, hF⟩ := hF
  obtain ⟨hx350, hF⟩ := hF
  obtain ⟨hx351, hF⟩ := hF
  obtain ⟨hd352, hF⟩ := hF
  refine hl_callW [pX x1, iX (xs ((x4 + 1).toNatClampNeg)), iX (xs ((x4 + 2).toNatClampNeg)), pX x3] [] X hP (met_X0_every l D dA ad hlt _ _ _ hF) (vx_cwSW 4 X.2.2.2.2.1 (lw_SW q1653 q1654 q97 q1655) rfl rfl rfl (by decide +kernel) ⟨Nat.le_of_ble_eq_true rfl, Nat.le_of_ble_eq_true rfl⟩) rfl hag hl (ltlp (ltk (by decide)) (ltlp hx351 (ltlp hx350 (ltlp hx349 (ltli ltln))))) ltsn (k8 := 0) (cs0 (k := 0)) (by decide) hd352 dL_law_1078 rfl (fun r356 ad g353 ι354 H locs hF X hP hag he355 hl => ?_)
  show W p l e ({ frames := 8192, cells := BC, slots := BS, locals := 100000 } : Room) s m args below meth c H locs (uc + 3) (us + 18) Zq (F0 m 1081 ls [.int r356])
  refine ph_istore X hl dL_law_1081 (by decide) rfl (fun ls hl => ?_)
  refine ph_aload_n (n := 3) X hl dL_law_1083 rfl rfl ?_
  refine ph_aload_n (n := 1) X hl dL_law_1084 rfl rfl ?_
  refine ph_iload (n := 5) X hl dL_law_1085 rfl ?_
  refine lv_iconst (v := 1) X.1 X.2.1 dL_law_1087 (by decide) ?_
  refine lv_iadd X.1 X.2.1 dL_law_1088 ?_
  obtain ⟨hr357, hF⟩ := hF
  refine hl_sld X hP (sc_ad hsc (hag.2 140 (by omega))) hr357 (k := (x4 + 1).toNatClampNeg) rfl dL_law_1089 ?_
  refine ph_aload_n (n := 1) X hl dL_law_1090 rfl rfl ?_
  refine ph_iload (n := 5) X hl dL_law_1091 rfl ?_
  refine lv_iconst (v := 2) X.1 X.2.1 dL_law_1093 (by decide) ?_
  refine lv_iadd X.1 X.2.1 dL_law_1094 ?_
  obtain ⟨hr358, hF⟩ := hF
  refine hl_sld X hP (sc_ad hsc (hag.2 140 (by omega))) hr358 (k := (x4 + 2).toNatClampNeg) rfl dL_law_1095 ?_
  obtain ⟨hT359, hF⟩ := hF
  refine hg_callTi [xs ((x4 + 1).toNatClampNeg), xs ((x4 + 2).toNatClampNeg)] X hP hT359 (met_X8_every l D dA (adT ad x2) _ _ hF) (cwV 2 X.2.2.2.2.1 (lw_V q2308 q2309 q2310 q126 q2311) rfl rfl rfl (by decide +kernel) ⟨Nat.le_of_ble_eq_true rfl, Nat.le_of_ble_eq_true rfl⟩) rfl hl (k8 := 0) (cs0 (k := 0)) (by decide) hd352 dL_law_1096 rfl (fun r360 σ361 H locs hF hP => ?_)
  show W p l e ({ frames := 8192, cells := BC, slots := BS, locals := 100000 } : Room) s m args below meth c H locs (uc + 3) (us + 18) Zq (F0 m 1099 ls [.int r360])
  refine ph_istore X hl dL_law_1099 (by decide) rfl (fun ls hl => ?_)
  refine ph_aload_n (n := 4) X hl dL_law_1101 rfl rfl ?_
  obtain ⟨hT362, hF⟩ := hF
  refine hg_callTi [] X hP hT362 (met_X8_thrown l D dA (adT ad x2) _ _ hF) (cwV 0 X.2.2.2.2.1 (lw_V q1990 q1991 q1992 q126 q1993) rfl rfl rfl (by decide +kernel) ⟨Nat.le_of_ble_eq_true rfl, Nat.le_of_ble_eq_true rfl⟩) rfl hl (k8 := 0) (cs0 (k := 0)) (by decide) hd352 dL_law_1102 rfl (fun r363 σ364 H locs hF hP => ?_)
  show W p l e ({ frames := 8192, cells := BC, slots := BS, locals := 100000 } : Room) s m args below meth c H locs (uc + 3) (us + 18) Zq (F0 m 1105 ls [.int r363])
  refine ph_iload (n := 1) X hl dL_law_1105 rfl ?_
  refine lv_icmp_eq (tgt := 1112) X.1 X.2.1 dL_law_1107 (by decide) (fun c369 => ?_) (fun c369 => ?_)
  · have hF := hF.1 c369
    refine ph_iload (n := 1) X hl dL_law_1112 rfl ?_
    refine lv_if_ne (tgt := 1129) X.1 X.2.1 dL_law_1114 (by decide) (fun c368 => ?_) (fun c368 => ?_)
    · have hF := hF.1 c368
      exact w_X0_law_1129 hlt hsc hret hk23 _ _ _ _ _ _ _ _ _ _ _ _ hF X hP hag (lh_sub hl [2, 3, 4, 5, 6] rfl)
    · have hF := hF.2 c368
      refine ph_aload_n (n := 5) X hl dL_law_1117 rfl rfl ?_
      refine lv_iconst (v := 0) X.1 X.2.1 dL_law_1118 (by decide) ?_
      obtain ⟨hm365, hF⟩ := hF
      obtain ⟨hr366, hF⟩ := hF
      refine hl_lald X hP hm365 hr366 (k := 0) (by decide) dL_law_1119 ?_
      refine ph_iload (n := 0) X hl dL_law_1120 rfl ?_
      refine lv_i2l X.1 X.2.1 dL_law_1122 rfl ?_
      refine W.lcmp X.1 X.2.1 dL_law_1123 ?_
      refine lv_if_eq (tgt := 1129) X.1 X.2.1 dL_law_1124 (by decide) (fun c367 => ?_) (fun c367 => ?_)
      · have hF := hF.1 c367
        exact w_X0_law_1129 hlt hsc hret hk23 _ _ _ _ _ _ _ _ _ _ _ _ hF X hP hag (lh_sub hl [2, 3, 4, 5, 6] rfl)
      · have hF := hF.2 c367
        refine lv_iconst (v := 0) X.1 X.2.1 dL_law_1127 (by decide) ?_
        exact hret _ _ _ _ _ _ _ _ _ _ dL_law_1128 hF hd352 X hP
  · have hF := hF.2 c369
    refine lv_iconst (v := 0) X.1 X.2.1 dL_law_1110 (by decide) ?_
    exact hret _ _ _ _ _ _ _ _ _ _ dL_law_1111 hF hd352 X hP
set_option maxHeartbeats 2000000 in
theorem w_X0_law_1185 (hlt : l.stackTraces = false) {L : Nat} {xs : Nat → Int32} {Zq : State → Prop} (hsc : SC s A ad0 L xs) {BC BS : Nat} {Q : Int32 → GT → S → Prop} (hret : LRet p l e s m args below meth c D dA A L xs BC BS Q Zq) {k23 : Nat → Nat → Nat → Int32 → GT → S → Nat → Nat → Prop} (hk23 : ∀ (x1 : Nat) (x2 : Nat) (x3 : Nat) (x4 : Int32) (g : GT) (ι : S) (uc us : Nat) (ad : Nat → Nat) (H : Heap) (locs : List Loc) (ls : Array Slot), k23 x1 x2 x3 x4 g ι uc us → CX p s m args c meth cL_law 7 (some .boolean) RX0 D dA ad A → PW D dA A s.heap ad (HS g ι) H locs → HA ad0 g0 ad g → LH ad ls 7 [(0, pX 140), (1, pX x1), (2, pX x2), (3, pX x3), (4, iX x4)] → W p l e ({ frames := 8192, cells := BC, slots := BS, locals := 100000 } : Room) s m args below meth c H locs (uc) (us) Zq (F0 m 23 ls [])) : ∀ (x1 : Nat) (x2 : Nat) (x3 : Nat) (x4 : Int32) (g : GT) (ι : S) (uc us : Nat) (ad : Nat → Nat) (H : Heap) (locs : List Loc) (ls : Array Slot), P_X0_law_1185 L xs BC BS Q k23 x1 x2 x3 x4 g ι uc us → CX p s m args c meth cL_law 7 (some .boolean) RX0 D dA ad A → PW D dA A s.heap ad (HS g ι) H locs → HA ad0 g0 ad g → LH ad ls 7 [(0, pX 140), (1, pX x1), (2, pX x2), (3, pX x3), (4, iX x4)] → W p l e ({ frames := 8192, cells := BC, slots := BS, locals := 100000 } : Room) s m args below meth c H locs (uc) (us) Zq (F0 m 1185 ls []) := by
  intro x1 x2 x3 x4 g ι uc us ad H locs ls hF X hP hag hl
  unfold P_X0_law_1185 at hF
  refine lv_goto (tgt := 1690) X.1 X.2.1 dL_law_1185 (by decide) ?_
  refine ph_iinc (v := x4 + 6) (k := 4) X hl dL_law_1690 rfl rfl (by decide) rfl (fun ls hl => ?_)
  refine lv_goto (tgt := 23) X.1 X.2.1 dL_law_1693 (by decide) ?_
  exact hk23 _ _ _ _ _ _ _ _ _ _ _ _ hF X hP hag (lh_sub hl [1, 2, 3, 4, 0] rfl)
set_option maxHeartbeats 2000000 in
theorem w_X0_law_1132 (hlt : l.stackTraces = false) {L : Nat} {xs : Nat → Int32} {Zq : State → Prop} (hsc : SC s A ad0 L xs) {BC BS : Nat} {Q : Int32 → GT → S → Prop} (hret : LRet p l e s m args below meth c D dA A L xs BC BS Q Zq) {k23 : Nat → Nat → Nat → Int32 → GT → S → Nat → Nat → Prop} (hk23 : ∀ (x1 : Nat) (x2 : Nat) (x3 : Nat) (x4 : Int32) (g : GT) (ι : S) (uc us : Nat) (ad : Nat → Nat) (H : Heap) (locs : List Loc) (ls : Array Slot), k23 x1 x2 x3 x4 g ι uc us → CX p s m args c meth cL_law 7 (some .boolean) RX0 D dA ad A → PW D dA A s.heap ad (HS g ι) H locs → HA ad0 g0 ad g → LH ad ls 7 [(0, pX 140), (1, pX x1), (2, pX x2), (3, pX x3), (4, iX x4)] → W p l e ({ frames := 8192, cells := BC, slots := BS, locals := 100000 } : Room) s m args below meth c H locs (uc) (us) Zq (F0 m 23 ls [])) : ∀ (x1 : Nat) (x2 : Nat) (x3 : Nat) (x4 : Int32) (g : GT) (ι : S) (uc us : Nat) (ad : Nat → Nat) (H : Heap) (locs : List Loc) (ls : Array Slot), P_X0_law_1132 L xs BC BS Q k23 x1 x2 x3 x4 g ι uc us → CX p s m args c meth cL_law 7 (some .boolean) RX0 D dA ad A → PW D dA A s.heap ad (HS g ι) H locs → HA ad0 g0 ad g → LH ad ls 7 [(0, pX 140), (1, pX x1), (2, pX x2), (3, pX x3), (4, iX x4)] → W p l e ({ frames := 8192, cells := BC, slots := BS, locals := 100000 } : Room) s m args below meth c H locs (uc) (us) Zq (F0 m 1132 ls []) := by
  intro x1 x2 x3 x4 g ι uc us ad H locs ls hF X hP hag hl
  unfold P_X0_law_1132 at hF
  refine ph_aload_n (n := 1) X hl dL_law_1132 rfl rfl ?_
  refine ph_aload_n (n := 0) X hl dL_law_1133 rfl rfl ?_
  refine ph_iload (n := 4) X hl dL_law_1134 rfl ?_
  refine lv_iconst (v := 1) X.1 X.2.1 dL_law_1136 (by decide) ?_
  refine lv_iadd X.1 X.2.1 dL_law_1137 ?_
  obtain ⟨hr370, hF⟩ := hF
  refine hl_sld X hP (sc_ad hsc (hag.2 140 (by omega))) hr370 (k := (x4 + 1).toNatClampNeg) rfl dL_law_1138 ?_
  refine ph_aload_n (n := 3) X hl dL_law_1139 rfl rfl ?_
  obtain ⟨hx371, hF⟩ := hF
  obtain ⟨hx372, hF⟩ := hF
  obtain ⟨hx373, hF⟩ := hF
  obtain ⟨hd374, hF⟩ := hF
  refine hl_callW [pX x1, iX (xs ((x4 + 1).toNatClampNeg)), pX x3] [] X hP (met_X0_bolsters l D dA ad hlt _ _ _ hF) (vx_cwSW 3 X.2.2.2.2.1 (lw_SW q1660 q1661 q97 q1662) rfl rfl rfl (by decide +kernel) ⟨Nat.le_of_ble_eq_true rfl, Nat.le_of_ble_eq_true rfl⟩) rfl hag hl (ltlp (ltk (by decide)) (ltlp hx373 (ltlp hx372 (ltlp hx371 (ltli ltln))))) ltsn (k8 := 0) (cs0 (k := 0)) (by decide) hd374 dL_law_1140 rfl (fun r378 ad g375 ι376 H locs hF X hP hag he377 hl => ?_)
  show W p l e ({ frames := 8192, cells := BC, slots := BS, locals := 100000 } : Room) s m args below meth c H locs (uc + 1) (us + 6) Zq (F0 m 1143 ls [.int r378])
  refine ph_istore X hl dL_law_1143 (by decide) rfl (fun ls hl => ?_)
  refine ph_aload_n (n := 3) X hl dL_law_1145 rfl rfl ?_
  refine ph_aload_n (n := 1) X hl dL_law_1146 rfl rfl ?_
  refine ph_iload (n := 5) X hl dL_law_1147 rfl ?_
  refine lv_iconst (v := 1) X.1 X.2.1 dL_law_1149 (by decide) ?_
  refine lv_iadd X.1 X.2.1 dL_law_1150 ?_
  obtain ⟨hr379, hF⟩ := hF
  refine hl_sld X hP (sc_ad hsc (hag.2 140 (by omega))) hr379 (k := (x4 + 1).toNatClampNeg) rfl dL_law_1151 ?_
  obtain ⟨hT380, hF⟩ := hF
  refine hg_callTi [xs ((x4 + 1).toNatClampNeg)] X hP hT380 (met_X8_bolsters l D dA (adT ad x2) _ _ hF) (cwV 1 X.2.2.2.2.1 (lw_V q2312 q2313 q2314 q126 q2315) rfl rfl rfl (by decide +kernel) ⟨Nat.le_of_ble_eq_true rfl, Nat.le_of_ble_eq_true rfl⟩) rfl hl (k8 := 0) (cs0 (k := 0)) (by decide) hd374 dL_law_1152 rfl (fun r381 σ382 H locs hF hP => ?_)
  show W p l e ({ frames := 8192, cells := BC, slots := BS, locals := 100000 } : Room) s m args below meth c H locs (uc + 1) (us + 6) Zq (F0 m 1155 ls [.int r381])
  refine ph_istore X hl dL_law_1155 (by decide) rfl (fun ls hl => ?_)
  refine ph_aload_n (n := 4) X hl dL_law_1157 rfl rfl ?_
  obtain ⟨hT383, hF⟩ := hF
  refine hg_callTi [] X hP hT383 (met_X8_thrown l D dA (adT ad x2) _ _ hF) (cwV 0 X.2.2.2.2.1 (lw_V q1990 q1991 q1992 q126 q1993) rfl rfl rfl (by decide +kernel) ⟨Nat.le_of_ble_eq_true rfl, Nat.le_of_ble_eq_true rfl⟩) rfl hl (k8 := 0) (cs0 (k := 0)) (by decide) hd374 dL_law_1158 rfl (fun r384 σ385 H locs hF hP => ?_)
  show W p l e ({ frames := 8192, cells := BC, slots := BS, locals := 100000 } : Room) s m args below meth c H locs (uc + 1) (us + 6) Zq (F0 m 1161 ls [.int r384])
  refine ph_iload (n := 1) X hl dL_law_1161 rfl ?_
  refine lv_icmp_eq (tgt := 1168) X.1 X.2.1 dL_law_1163 (by decide) (fun c390 => ?_) (fun c390 => ?_)
  · have hF := hF.1 c390
    refine ph_iload (n := 1) X hl dL_law_1168 rfl ?_
    refine lv_if_ne (tgt := 1185) X.1 X.2.1 dL_law_1170 (by decide) (fun c389 => ?_) (fun c389 => ?_)
    · have hF := hF.1 c389
      exact w_X0_law_1185 hlt hsc hret hk23 _ _ _ _ _ _ _ _ _ _ _ _ hF X hP hag (lh_sub hl [2, 3, 4, 5, 6] rfl)
    · have hF := hF.2 c389
      refine ph_aload_n (n := 5) X hl dL_law_1173 rfl rfl ?_
      refine lv_iconst (v := 0) X.1 X.2.1 dL_law_1174 (by decide) ?_
      obtain ⟨hm386, hF⟩ := hF
      obtain ⟨hr387, hF⟩ := hF
      refine hl_lald X hP hm386 hr387 (k := 0) (by decide) dL_law_1175 ?_
      refine ph_iload (n := 0) X hl dL_law_1176 rfl ?_
      refine lv_i2l X.1 X.2.1 dL_law_1178 rfl ?_
      refine W.lcmp X.1 X.2.1 dL_law_1179 ?_
      refine lv_if_eq (tgt := 1185) X.1 X.2.1 dL_law_1180 (by decide) (fun c388 => ?_) (fun c388 => ?_)
      · have hF := hF.1 c388
        exact w_X0_law_1185 hlt hsc hret hk23 _ _ _ _ _ _ _ _ _ _ _ _ hF X hP hag (lh_sub hl [2, 3, 4, 5, 6] rfl)
      · have hF := hF.2 c388
        refine lv_iconst (v := 0) X.1 X.2.1 dL_law_1183 (by decide) ?_
        exact hret _ _ _ _ _ _ _ _ _ _ dL_law_1184 hF hd374 X hP
  · have hF := hF.2 c390
    refine lv_iconst (v := 0) X.1 X.2.1 dL_law_1166 (by decide) ?_
    exact hret _ _ _ _ _ _ _ _ _ _ dL_law_1167 hF hd374 X hP
set_option maxHeartbeats 2000000 in
theorem w_X0_law_1241 (hlt : l.stackTraces = false) {L : Nat} {xs : Nat → Int32} {Zq : State → Prop} (hsc : SC s A ad0 L xs) {BC BS : Nat} {Q : Int32 → GT → S → Prop} (hret : LRet p l e s m args below meth c D dA A L xs BC BS Q Zq) {k23 : Nat → Nat → Nat → Int32 → GT → S → Nat → Nat → Prop} (hk23 : ∀ (x1 : Nat) (x2 : Nat) (x3 : Nat) (x4 : Int32) (g : GT) (ι : S) (uc us : Nat) (ad : Nat → Nat) (H : Heap) (locs : List Loc) (ls : Array Slot), k23 x1 x2 x3 x4 g ι uc us → CX p s m args c meth cL_law 7 (some .boolean) RX0 D dA ad A → PW D dA A s.heap ad (HS g ι) H locs → HA ad0 g0 ad g → LH ad ls 7 [(0, pX 140), (1, pX x1), (2, pX x2), (3, pX x3), (4, iX x4)] → W p l e ({ frames := 8192, cells := BC, slots := BS, locals := 100000 } : Room) s m args below meth c H locs (uc) (us) Zq (F0 m 23 ls [])) : ∀ (x1 : Nat) (x2 : Nat) (x3 : Nat) (x4 : Int32) (g : GT) (ι : S) (uc us : Nat) (ad : Nat → Nat) (H : Heap) (locs : List Loc) (ls : Array Slot), P_X0_law_1241 L xs BC BS Q k23 x1 x2 x3 x4 g ι uc us → CX p s m args c meth cL_law 7 (some .boolean) RX0 D dA ad A → PW D dA A s.heap ad (HS g ι) H locs → HA ad0 g0 ad g → LH ad ls 7 [(0, pX 140), (1, pX x1), (2, pX x2), (3, pX x3), (4, iX x4)] → W p l e ({ frames := 8192, cells := BC, slots := BS, locals := 100000 } : Room) s m args below meth c H locs (uc) (us) Zq (F0 m 1241 ls []) := by
  intro x1 x2 x3 x4 g ι uc us ad H locs ls hF X hP hag hl
  unfold P_X0_law_1241 at hF
  refine lv_goto (tgt := 1690) X.1 X.2.1 dL_law_1241 (by decide) ?_
  refine ph_iinc (v := x4 + 6) (k := 4) X hl dL_law_1690 rfl rfl (by decide) rfl (fun ls hl => ?_)
  refine lv_goto (tgt := 23) X.1 X.2.1 dL_law_1693 (by decide) ?_
  exact hk23 _ _ _ _ _ _ _ _ _ _ _ _ hF X hP hag (lh_sub hl [1, 2, 3, 4, 0] rfl)
set_option maxHeartbeats 2000000 in
theorem w_X0_law_1188 (hlt : l.stackTraces = false) {L : Nat} {xs : Nat → Int32} {Zq : State → Prop} (hsc : SC s A ad0 L xs) {BC BS : Nat} {Q : Int32 → GT → S → Prop} (hret : LRet p l e s m args below meth c D dA A L xs BC BS Q Zq) {k23 : Nat → Nat → Nat → Int32 → GT → S → Nat → Nat → Prop} (hk23 : ∀ (x1 : Nat) (x2 : Nat) (x3 : Nat) (x4 : Int32) (g : GT) (ι : S) (uc us : Nat) (ad : Nat → Nat) (H : Heap) (locs : List Loc) (ls : Array Slot), k23 x1 x2 x3 x4 g ι uc us → CX p s m args c meth cL_law 7 (some .boolean) RX0 D dA ad A → PW D dA A s.heap ad (HS g ι) H locs → HA ad0 g0 ad g → LH ad ls 7 [(0, pX 140), (1, pX x1), (2, pX x2), (3, pX x3), (4, iX x4)] → W p l e ({ frames := 8192, cells := BC, slots := BS, locals := 100000 } : Room) s m args below meth c H locs (uc) (us) Zq (F0 m 23 ls [])) : ∀ (x1 : Nat) (x2 : Nat) (x3 : Nat) (x4 : Int32) (g : GT) (ι : S) (uc us : Nat) (ad : Nat → Nat) (H : Heap) (locs : List Loc) (ls : Array Slot), P_X0_law_1188 L xs BC BS Q k23 x1 x2 x3 x4 g ι uc us → CX p s m args c meth cL_law 7 (some .boolean) RX0 D dA ad A → PW D dA A s.heap ad (HS g ι) H locs → HA ad0 g0 ad g → LH ad ls 7 [(0, pX 140), (1, pX x1), (2, pX x2), (3, pX x3), (4, iX x4)] → W p l e ({ frames := 8192, cells := BC, slots := BS, locals := 100000 } : Room) s m args below meth c H locs (uc) (us) Zq (F0 m 1188 ls []) := by
  intro x1 x2 x3 x4 g ι uc us ad H locs ls hF X hP hag hl
  unfold P_X0_law_1188 at hF
  refine ph_aload_n (n := 1) X hl dL_law_1188 rfl rfl ?_
  refine ph_aload_n (n := 0) X hl dL_law_1189 rfl rfl ?_
  refine ph_iload (n := 4) X hl dL_law_1190 rfl ?_
  refine lv_iconst (v := 1) X.1 X.2.1 dL_law_1192 (by decide) ?_
  refine lv_iadd X.1 X.2.1 dL_law_1193 ?_
  obtain ⟨hr391, hF⟩ := hF
  refine hl_sld X hP (sc_ad hsc (hag.2 140 (by omega))) hr391 (k := (x4 + 1).toNatClampNeg) rfl dL_law_1194 ?_
  refine ph_aload_n (n := 3) X hl dL_law_1195 rfl rfl ?_
  obtain ⟨hx392, hF⟩ := hF
  obtain ⟨hx393, hF⟩ := hF
  obtain ⟨hx394, hF⟩ := hF
  obtain ⟨hd395, hF⟩ := hF
  refine hl_callW [pX x1, iX (xs ((x4 + 1).toNatClampNeg)), pX x3] [] X hP (met_X0_free l D dA ad hlt _ _ _ hF) (vx_cwSW 3 X.2.2.2.2.1 (lw_SW q1674 q1675 q97 q1676) rfl rfl rfl (by decide +kernel) ⟨Nat.le_of_ble_eq_true rfl, Nat.le_of_ble_eq_true rfl⟩) rfl hag hl (ltlp (ltk (by decide)) (ltlp hx394 (ltlp hx393 (ltlp hx392 (ltli ltln))))) ltsn (k8 := 0) (cs0 (k := 0)) (by decide) hd395 dL_law_1196 rfl (fun r399 ad g396 ι397 H locs hF X hP hag he398 hl => ?_)
  show W p l e ({ frames := 8192, cells := BC, slots := BS, locals := 100000 } : Room) s m args below meth c H locs (uc + 1) (us + 6) Zq (F0 m 1199 ls [.int r399])
  refine ph_istore X hl dL_law_1199 (by decide) rfl (fun ls hl => ?_)
  refine ph_aload_n (n := 3) X hl dL_law_1201 rfl rfl ?_
  refine ph_aload_n (n := 1) X hl dL_law_1202 rfl rfl ?_
  refine ph_iload (n := 5) X hl dL_law_1203 rfl ?_
  refine lv_iconst (v := 1) X.1 X.2.1 dL_law_1205 (by decide) ?_
  refine lv_iadd X.1 X.2.1 dL_law_1206 ?_
  obtain ⟨hr400, hF⟩ := hF
  refine hl_sld X hP (sc_ad hsc (hag.2 140 (by omega))) hr400 (k := (x4 + 1).toNatClampNeg) rfl dL_law_1207 ?_
  obtain ⟨hT401, hF⟩ := hF
  refine hg_callTi [xs ((x4 + 1).toNatClampNeg)] X hP hT401 (met_X8_free l D dA (adT ad x2) _ _ hF) (cwV 1 X.2.2.2.2.1 (lw_V q2319 q2320 q2321 q126 q2322) rfl rfl rfl (by decide +kernel) ⟨Nat.le_of_ble_eq_true rfl, Nat.le_of_ble_eq_true rfl⟩) rfl hl (k8 := 0) (cs0 (k := 0)) (by decide) hd395 dL_law_1208 rfl (fun r402 σ403 H locs hF hP => ?_)
  show W p l e ({ frames := 8192, cells := BC, slots := BS, locals := 100000 } : Room) s m args below meth c H locs (uc + 1) (us + 6) Zq (F0 m 1211 ls [.int r402])
  refine ph_istore X hl dL_law_1211 (by decide) rfl (fun ls hl => ?_)
  refine ph_aload_n (n := 4) X hl dL_law_1213 rfl rfl ?_
  obtain ⟨hT404, hF⟩ := hF
  refine hg_callTi [] X hP hT404 (met_X8_thrown l D dA (adT ad x2) _ _ hF) (cwV 0 X.2.2.2.2.1 (lw_V q1990 q1991 q1992 q126 q1993) rfl rfl rfl (by decide +kernel) ⟨Nat.le_of_ble_eq_true rfl, Nat.le_of_ble_eq_true rfl⟩) rfl hl (k8 := 0) (cs0 (k := 0)) (by decide) hd395 dL_law_1214 rfl (fun r405 σ406 H locs hF hP => ?_)
  show W p l e ({ frames := 8192, cells := BC, slots := BS, locals := 100000 } : Room) s m args below meth c H locs (uc + 1) (us + 6) Zq (F0 m 1217 ls [.int r405])
  refine ph_iload (n := 1) X hl dL_law_1217 rfl ?_
  refine lv_icmp_eq (tgt := 1224) X.1 X.2.1 dL_law_1219 (by decide) (fun c411 => ?_) (fun c411 => ?_)
  · have hF := hF.1 c411
    refine ph_iload (n := 1) X hl dL_law_1224 rfl ?_
    refine lv_if_ne (tgt := 1241) X.1 X.2.1 dL_law_1226 (by decide) (fun c410 => ?_) (fun c410 => ?_)
    · have hF := hF.1 c410
      exact w_X0_law_1241 hlt hsc hret hk23 _ _ _ _ _ _ _ _ _ _ _ _ hF X hP hag (lh_sub hl [2, 3, 4, 5, 6] rfl)
    · have hF := hF.2 c410
      refine ph_aload_n (n := 5) X hl dL_law_1229 rfl rfl ?_
      refine lv_iconst (v := 0) X.1 X.2.1 dL_law_1230 (by decide) ?_
      obtain ⟨hm407, hF⟩ := hF
      obtain ⟨hr408, hF⟩ := hF
      refine hl_lald X hP hm407 hr408 (k := 0) (by decide) dL_law_1231 ?_
      refine ph_iload (n := 0) X hl dL_law_1232 rfl ?_
      refine lv_i2l X.1 X.2.1 dL_law_1234 rfl ?_
      refine W.lcmp X.1 X.2.1 dL_law_1235 ?_
      refine lv_if_eq (tgt := 1241) X.1 X.2.1 dL_law_1236 (by decide) (fun c409 => ?_) (fun c409 => ?_)
      · have hF := hF.1 c409
        exact w_X0_law_1241 hlt hsc hret hk23 _ _ _ _ _ _ _ _ _ _ _ _ hF X hP hag (lh_sub hl [2, 3, 4, 5, 6] rfl)
      · have hF := hF.2 c409
        refine lv_iconst (v := 0) X.1 X.2.1 dL_law_1239 (by decide) ?_
        exact hret _ _ _ _ _ _ _ _ _ _ dL_law_1240 hF hd395 X hP
  · have hF := hF.2 c411
    refine lv_iconst (v := 0) X.1 X.2.1 dL_law_1222 (by decide) ?_
    exact hret _ _ _ _ _ _ _ _ _ _ dL_law_1223 hF hd395 X hP
set_option maxHeartbeats 2000000 in
theorem w_X0_law_1297 (hlt : l.stackTraces = false) {L : Nat} {xs : Nat → Int32} {Zq : State → Prop} (hsc : SC s A ad0 L xs) {BC BS : Nat} {Q : Int32 → GT → S → Prop} (hret : LRet p l e s m args below meth c D dA A L xs BC BS Q Zq) {k23 : Nat → Nat → Nat → Int32 → GT → S → Nat → Nat → Prop} (hk23 : ∀ (x1 : Nat) (x2 : Nat) (x3 : Nat) (x4 : Int32) (g : GT) (ι : S) (uc us : Nat) (ad : Nat → Nat) (H : Heap) (locs : List Loc) (ls : Array Slot), k23 x1 x2 x3 x4 g ι uc us → CX p s m args c meth cL_law 7 (some .boolean) RX0 D dA ad A → PW D dA A s.heap ad (HS g ι) H locs → HA ad0 g0 ad g → LH ad ls 7 [(0, pX 140), (1, pX x1), (2, pX x2), (3, pX x3), (4, iX x4)] → W p l e ({ frames := 8192, cells := BC, slots := BS, locals := 100000 } : Room) s m args below meth c H locs (uc) (us) Zq (F0 m 23 ls [])) : ∀ (x1 : Nat) (x2 : Nat) (x3 : Nat) (x4 : Int32) (g : GT) (ι : S) (uc us : Nat) (ad : Nat → Nat) (H : Heap) (locs : List Loc) (ls : Array Slot), P_X0_law_1297 L xs BC BS Q k23 x1 x2 x3 x4 g ι uc us → CX p s m args c meth cL_law 7 (some .boolean) RX0 D dA ad A → PW D dA A s.heap ad (HS g ι) H locs → HA ad0 g0 ad g → LH ad ls 7 [(0, pX 140), (1, pX x1), (2, pX x2), (3, pX x3), (4, iX x4)] → W p l e ({ frames := 8192, cells := BC, slots := BS, locals := 100000 } : Room) s m args below meth c H locs (uc) (us) Zq (F0 m 1297 ls []) := by
  intro x1 x2 x3 x4 g ι uc us ad H locs ls hF X hP hag hl
  unfold P_X0_law_1297 at hF
  refine lv_goto (tgt := 1690) X.1 X.2.1 dL_law_1297 (by decide) ?_
  refine ph_iinc (v := x4 + 6) (k := 4) X hl dL_law_1690 rfl rfl (by decide) rfl (fun ls hl => ?_)
  refine lv_goto (tgt := 23) X.1 X.2.1 dL_law_1693 (by decide) ?_
  exact hk23 _ _ _ _ _ _ _ _ _ _ _ _ hF X hP hag (lh_sub hl [1, 2, 3, 4, 0] rfl)
set_option maxHeartbeats 2000000 in
theorem w_X0_law_1244 (hlt : l.stackTraces = false) {L : Nat} {xs : Nat → Int32} {Zq : State → Prop} (hsc : SC s A ad0 L xs) {BC BS : Nat} {Q : Int32 → GT → S → Prop} (hret : LRet p l e s m args below meth c D dA A L xs BC BS Q Zq) {k23 : Nat → Nat → Nat → Int32 → GT → S → Nat → Nat → Prop} (hk23 : ∀ (x1 : Nat) (x2 : Nat) (x3 : Nat) (x4 : Int32) (g : GT) (ι : S) (uc us : Nat) (ad : Nat → Nat) (H : Heap) (locs : List Loc) (ls : Array Slot), k23 x1 x2 x3 x4 g ι uc us → CX p s m args c meth cL_law 7 (some .boolean) RX0 D dA ad A → PW D dA A s.heap ad (HS g ι) H locs → HA ad0 g0 ad g → LH ad ls 7 [(0, pX 140), (1, pX x1), (2, pX x2), (3, pX x3), (4, iX x4)] → W p l e ({ frames := 8192, cells := BC, slots := BS, locals := 100000 } : Room) s m args below meth c H locs (uc) (us) Zq (F0 m 23 ls [])) : ∀ (x1 : Nat) (x2 : Nat) (x3 : Nat) (x4 : Int32) (g : GT) (ι : S) (uc us : Nat) (ad : Nat → Nat) (H : Heap) (locs : List Loc) (ls : Array Slot), P_X0_law_1244 L xs BC BS Q k23 x1 x2 x3 x4 g ι uc us → CX p s m args c meth cL_law 7 (some .boolean) RX0 D dA ad A → PW D dA A s.heap ad (HS g ι) H locs → HA ad0 g0 ad g → LH ad ls 7 [(0, pX 140), (1, pX x1), (2, pX x2), (3, pX x3), (4, iX x4)] → W p l e ({ frames := 8192, cells := BC, slots := BS, locals := 100000 } : Room) s m args below meth c H locs (uc) (us) Zq (F0 m 1244 ls []) := by
  intro x1 x2 x3 x4 g ι uc us ad H locs ls hF X hP hag hl
  unfold P_X0_law_1244 at hF
  refine ph_aload_n (n := 1) X hl dL_law_1244 rfl rfl ?_
  refine ph_aload_n (n := 0) X hl dL_law_1245 rfl rfl ?_
  refine ph_iload (n := 4) X hl dL_law_1246 rfl ?_
  refine lv_iconst (v := 1) X.1 X.2.1 dL_law_1248 (by decide) ?_
  refine lv_iadd X.1 X.2.1 dL_law_1249 ?_
  obtain ⟨hr412, hF⟩ := hF
  refine hl_sld X hP (sc_ad hsc (hag.2 140 (by omega))) hr412 (k := (x4 + 1).toNatClampNeg) rfl dL_law_1250 ?_
  refine ph_aload_n (n := 3) X hl dL_law_1251 rfl rfl ?_
  obtain ⟨hx413, hF⟩ := hF
  obtain ⟨hx414, hF⟩ := hF
  obtain ⟨hx415, hF⟩ := hF
  obtain ⟨hd416, hF⟩ := hF
  refine hl_callW [pX x1, iX (xs ((x4 + 1).toNatClampNeg)), pX x3] [] X hP (met_X0_outs l D dA ad hlt _ _ _ hF) (vx_cwSW 3 X.2.2.2.2.1 (lw_SW q1681 q1682 q97 q1683) rfl rfl rfl (by decide +kernel) ⟨Nat.le_of_ble_eq_true rfl, Nat.le_of_ble_eq_true rfl⟩) rfl hag hl (ltlp (ltk (by decide)) (ltlp hx415 (ltlp hx414 (ltlp hx413 (ltli ltln))))) ltsn (k8 := 0) (cs0 (k := 0)) (by decide) hd416 dL_law_1252 rfl (fun r420 ad g417 ι418 H locs hF X hP hag he419 hl => ?_)
  show W p l e ({ frames := 8192, cells := BC, slots := BS, locals := 100000 } : Room) s m args below meth c H locs (uc + 1) (us + 6) Zq (F0 m 1255 ls [.int r420])
  refine ph_istore X hl dL_law_1255 (by decide) rfl (fun ls hl => ?_)
  refine ph_aload_n (n := 3) X hl dL_law_1257 rfl rfl ?_
  refine ph_aload_n (n := 1) X hl dL_law_1258 rfl rfl ?_
  refine ph_iload (n := 5) X hl dL_law_1259 rfl ?_
  refine lv_iconst (v := 1) X.1 X.2.1 dL_law_1261 (by decide) ?_
  refine lv_iadd X.1 X.2.1 dL_law_1262 ?_
  obtain ⟨hr421, hF⟩ := hF
  refine hl_sld X hP (sc_ad hsc (hag.2 140 (by omega))) hr421 (k := (x4 + 1).toNatClampNeg) rfl dL_law_1263 ?_
  obtain ⟨hT422, hF⟩ := hF
  refine hg_callTi [xs ((x4 + 1).toNatClampNeg)] X hP hT422 (met_X8_outs l D dA (adT ad x2) _ _ hF) (cwV 1 X.2.2.2.2.1 (lw_V q2323 q2324 q2325 q126 q2326) rfl rfl rfl (by decide +kernel) ⟨Nat.le_of_ble_eq_true rfl, Nat.le_of_ble_eq_true rfl⟩) rfl hl (k8 := 0) (cs0 (k := 0)) (by decide) hd416 dL_law_1264 rfl (fun r423 σ424 H locs hF hP => ?_)
  show W p l e ({ frames := 8192, cells := BC, slots := BS, locals := 100000 } : Room) s m args below meth c H locs (uc + 1) (us + 6) Zq (F0 m 1267 ls [.int r423])
  refine ph_istore X hl dL_law_1267 (by decide) rfl (fun ls hl => ?_)
  refine ph_aload_n (n := 4) X hl dL_law_1269 rfl rfl ?_
  obtain ⟨hT425, hF⟩ := hF
  refine hg_callTi [] X hP hT425 (met_X8_thrown l D dA (adT ad x2) _ _ hF) (cwV 0 X.2.2.2.2.1 (lw_V q1990 q1991 q1992 q126 q1993) rfl rfl rfl (by decide +kernel) ⟨Nat.le_of_ble_eq_true rfl, Nat.le_of_ble_eq_true rfl⟩) rfl hl (k8 := 0) (cs0 (k := 0)) (by decide) hd416 dL_law_1270 rfl (fun r426 σ427 H locs hF hP => ?_)
  show W p l e ({ frames := 8192, cells := BC, slots := BS, locals := 100000 } : Room) s m args below meth c H locs (uc + 1) (us + 6) Zq (F0 m 1273 ls [.int r426])
  refine ph_iload (n := 1) X hl dL_law_1273 rfl ?_
  refine lv_icmp_eq (tgt := 1280) X.1 X.2.1 dL_law_1275 (by decide) (fun c432 => ?_) (fun c432 => ?_)
  · have hF := hF.1 c432
    refine ph_iload (n := 1) X hl dL_law_1280 rfl ?_
    refine lv_if_ne (tgt := 1297) X.1 X.2.1 dL_law_1282 (by decide) (fun c431 => ?_) (fun c431 => ?_)
    · have hF := hF.1 c431
      exact w_X0_law_1297 hlt hsc hret hk23 _ _ _ _ _ _ _ _ _ _ _ _ hF X hP hag (lh_sub hl [2, 3, 4, 5, 6] rfl)
    · have hF := hF.2 c431
      refine ph_aload_n (n := 5) X hl dL_law_1285 rfl rfl ?_
      refine lv_iconst (v := 0) X.1 X.2.1 dL_law_1286 (by decide) ?_
      obtain ⟨hm428, hF⟩ := hF
      obtain ⟨hr429, hF⟩ := hF
      refine hl_lald X hP hm428 hr429 (k := 0) (by decide) dL_law_1287 ?_
      refine ph_iload (n := 0) X hl dL_law_1288 rfl ?_
      refine lv_i2l X.1 X.2.1 dL_law_1290 rfl ?_
      refine W.lcmp X.1 X.2.1 dL_law_1291 ?_
      refine lv_if_eq (tgt := 1297) X.1 X.2.1 dL_law_1292 (by decide) (fun c430 => ?_) (fun c430 => ?_)
      · have hF := hF.1 c430
        exact w_X0_law_1297 hlt hsc hret hk23 _ _ _ _ _ _ _ _ _ _ _ _ hF X hP hag (lh_sub hl [2, 3, 4, 5, 6] rfl)
      · have hF := hF.2 c430
        refine lv_iconst (v := 0) X.1 X.2.1 dL_law_1295 (by decide) ?_
        exact hret _ _ _ _ _ _ _ _ _ _ dL_law_1296 hF hd416 X hP
  · have hF := hF.2 c432
    refine lv_iconst (v := 0) X.1 X.2.1 dL_law_1278 (by decide) ?_
    exact hret _ _ _ _ _ _ _ _ _ _ dL_law_1279 hF hd416 X hP
set_option maxHeartbeats 2000000 in
theorem w_X0_law_1300 (hlt : l.stackTraces = false) {L : Nat} {xs : Nat → Int32} {Zq : State → Prop} (hsc : SC s A ad0 L xs) {BC BS : Nat} {Q : Int32 → GT → S → Prop} (hret : LRet p l e s m args below meth c D dA A L xs BC BS Q Zq) {k23 : Nat → Nat → Nat → Int32 → GT → S → Nat → Nat → Prop} (hk23 : ∀ (x1 : Nat) (x2 : Nat) (x3 : Nat) (x4 : Int32) (g : GT) (ι : S) (uc us : Nat) (ad : Nat → Nat) (H : Heap) (locs : List Loc) (ls : Array Slot), k23 x1 x2 x3 x4 g ι uc us → CX p s m args c meth cL_law 7 (some .boolean) RX0 D dA ad A → PW D dA A s.heap ad (HS g ι) H locs → HA ad0 g0 ad g → LH ad ls 7 [(0, pX 140), (1, pX x1), (2, pX x2), (3, pX x3), (4, iX x4)] → W p l e ({ frames := 8192, cells := BC, slots := BS, locals := 100000 } : Room) s m args below meth c H locs (uc) (us) Zq (F0 m 23 ls [])) : ∀ (x1 : Nat) (x2 : Nat) (x3 : Nat) (x4 : Int32) (g : GT) (ι : S) (uc us : Nat) (ad : Nat → Nat) (H : Heap) (locs : List Loc) (ls : Array Slot), P_X0_law_1300 L xs BC BS Q k23 x1 x2 x3 x4 g ι uc us → CX p s m args c meth cL_law 7 (some .boolean) RX0 D dA ad A → PW D dA A s.heap ad (HS g ι) H locs → HA ad0 g0 ad g → LH ad ls 7 [(0, pX 140), (1, pX x1), (2, pX x2), (3, pX x3), (4, iX x4)] → W p l e ({ frames := 8192, cells := BC, slots := BS, locals := 100000 } : Room) s m args below meth c H locs (uc) (us) Zq (F0 m 1300 ls []) := by
  intro x1 x2 x3 x4 g ι uc us ad H locs ls hF X hP hag hl
  unfold P_X0_law_1300 at hF
  refine ph_aload_n (n := 1) X hl dL_law_1300 rfl rfl ?_
  obtain ⟨hd433, hF⟩ := hF
  obtain ⟨hm437, hF⟩ := hF
  refine cg_callVi 1 [] X hP hm437 (met_X1_edge l D dA ad g _ _ hF) (cwV 0 X.2.2.2.2.1 (lw_V q1125 q1126 q1127 q98 q1128) rfl rfl rfl (by decide +kernel) ⟨Nat.le_of_ble_eq_true rfl, Nat.le_of_ble_eq_true rfl⟩) rfl hl (k8 := 0) (cs0 (k := 0)) (by decide) hd433 dL_law_1301 rfl (fun r434 ι435 H locs hF hP => ?_)
  refine ph_aload_n (n := 2) X hl dL_law_1304 rfl rfl ?_
  obtain ⟨hT438, hF⟩ := hF
  refine hg_callTi [] X hP hT438 (met_X8_edge l D dA (adT ad x2) _ _ hF) (cwV 0 X.2.2.2.2.1 (lw_V q2330 q2331 q2332 q126 q2333) rfl rfl rfl (by decide +kernel) ⟨Nat.le_of_ble_eq_true rfl, Nat.le_of_ble_eq_true rfl⟩) rfl hl (k8 := 1) (csi (cs0 (k := 0))) (by decide) hd433 dL_law_1305 rfl (fun r439 σ440 H locs hF hP => ?_)
  show W p l e ({ frames := 8192, cells := BC, slots := BS, locals := 100000 } : Room) s m args below meth c H locs (uc) (us) Zq (F0 m 1308 ls [.int r439, .int r434])
  refine lv_icmp_eq (tgt := 1690) X.1 X.2.1 dL_law_1308 (by decide) (fun c441 => ?_) (fun c441 => ?_)
  · have hF := hF.1 c441
    refine ph_iinc (v := x4 + 6) (k := 4) X hl dL_law_1690 rfl rfl (by decide) rfl (fun ls hl => ?_)
    refine lv_goto (tgt := 23) X.1 X.2.1 dL_law_1693 (by decide) ?_
    exact hk23 _ _ _ _ _ _ _ _ _ _ _ _ hF X hP hag (lh_sub hl [1, 2, 3, 4, 0] rfl)
  · have hF := hF.2 c441
    refine lv_iconst (v := 0) X.1 X.2.1 dL_law_1311 (by decide) ?_
    exact hret _ _ _ _ _ _ _ _ _ _ dL_law_1312 hF hd433 X hP
set_option maxHeartbeats 2000000 in
theorem w_X0_law_1378 (hlt : l.stackTraces = false) {L : Nat} {xs : Nat → Int32} {Zq : State → Prop} (hsc : SC s A ad0 L xs) {BC BS : Nat} {Q : Int32 → GT → S → Prop} (hret : LRet p l e s m args below meth c D dA A L xs BC BS Q Zq) {k23 : Nat → Nat → Nat → Int32 → GT → S → Nat → Nat → Prop} (hk23 : ∀ (x1 : Nat) (x2 : Nat) (x3 : Nat) (x4 : Int32) (g : GT) (ι : S) (uc us : Nat) (ad : Nat → Nat) (H : Heap) (locs : List Loc) (ls : Array Slot), k23 x1 x2 x3 x4 g ι uc us → CX p s m args c meth cL_law 7 (some .boolean) RX0 D dA ad A → PW D dA A s.heap ad (HS g ι) H locs → HA ad0 g0 ad g → LH ad ls 7 [(0, pX 140), (1, pX x1), (2, pX x2), (3, pX x3), (4, iX x4)] → W p l e ({ frames := 8192, cells := BC, slots := BS, locals := 100000 } : Room) s m args below meth c H locs (uc) (us) Zq (F0 m 23 ls [])) : ∀ (x1 : Nat) (x2 : Nat) (x3 : Nat) (x4 : Int32) (g : GT) (ι : S) (uc us : Nat) (ad : Nat → Nat) (H : Heap) (locs : List Loc) (ls : Array Slot), P_X0_law_1378 L xs BC BS Q k23 x1 x2 x3 x4 g ι uc us → CX p s m args c meth cL_law 7 (some .boolean) RX0 D dA ad A → PW D dA A s.heap ad (HS g ι) H locs → HA ad0 g0 ad g → LH ad ls 7 [(0, pX 140), (1, pX x1), (2, pX x2), (3, pX x3), (4, iX x4)] → W p l e ({ frames := 8192, cells := BC, slots := BS, locals := 100000 } : Room) s m args below meth c H locs (uc) (us) Zq (F0 m 1378 ls []) := by
  intro x1 x2 x3 x4 g ι uc us ad H locs ls hF X hP hag hl
  unfold P_X0_law_1378 at hF
  refine lv_goto (tgt := 1690) X.1 X.2.1 dL_law_1378 (by decide) ?_
  refine ph_iinc (v := x4 + 6) (k := 4) X hl dL_law_1690 rfl rfl (by decide) rfl (fun ls hl => ?_)
  refine lv_goto (tgt := 23) X.1 X.2.1 dL_law_1693 (by decide) ?_
  exact hk23 _ _ _ _ _ _ _ _ _ _ _ _ hF X hP hag (lh_sub hl [1, 2, 3, 4, 0] rfl)
set_option maxHeartbeats 2000000 in
theorem w_X0_law_1313 (hlt : l.stackTraces = false) {L : Nat} {xs : Nat → Int32} {Zq : State → Prop} (hsc : SC s A ad0 L xs) {BC BS : Nat} {Q : Int32 → GT → S → Prop} (hret : LRet p l e s m args below meth c D dA A L xs BC BS Q Zq) {k23 : Nat → Nat → Nat → Int32 → GT → S → Nat → Nat → Prop} (hk23 : ∀ (x1 : Nat) (x2 : Nat) (x3 : Nat) (x4 : Int32) (g : GT) (ι : S) (uc us : Nat) (ad : Nat → Nat) (H : Heap) (locs : List Loc) (ls : Array Slot), k23 x1 x2 x3 x4 g ι uc us → CX p s m args c meth cL_law 7 (some .boolean) RX0 D dA ad A → PW D dA A s.heap ad (HS g ι) H locs → HA ad0 g0 ad g → LH ad ls 7 [(0, pX 140), (1, pX x1), (2, pX x2), (3, pX x3), (4, iX x4)] → W p l e ({ frames := 8192, cells := BC, slots := BS, locals := 100000 } : Room) s m args below meth c H locs (uc) (us) Zq (F0 m 23 ls [])) : ∀ (x1 : Nat) (x2 : Nat) (x3 : Nat) (x4 : Int32) (g : GT) (ι : S) (uc us : Nat) (ad : Nat → Nat) (H : Heap) (locs : List Loc) (ls : Array Slot), P_X0_law_1313 L xs BC BS Q k23 x1 x2 x3 x4 g ι uc us → CX p s m args c meth cL_law 7 (some .boolean) RX0 D dA ad A → PW D dA A s.heap ad (HS g ι) H locs → HA ad0 g0 ad g → LH ad ls 7 [(0, pX 140), (1, pX x1), (2, pX x2), (3, pX x3), (4, iX x4)] → W p l e ({ frames := 8192, cells := BC, slots := BS, locals := 100000 } : Room) s m args below meth c H locs (uc) (us) Zq (F0 m 1313 ls []) := by
  intro x1 x2 x3 x4 g ι uc us ad H locs ls hF X hP hag hl
  unfold P_X0_law_1313 at hF
  refine ph_aload_n (n := 1) X hl dL_law_1313 rfl rfl ?_
  refine ph_aload_n (n := 0) X hl dL_law_1314 rfl rfl ?_
  refine ph_iload (n := 4) X hl dL_law_1315 rfl ?_
  refine lv_iconst (v := 1) X.1 X.2.1 dL_law_1317 (by decide) ?_
  refine lv_iadd X.1 X.2.1 dL_law_1318 ?_
  obtain ⟨hr442, hF⟩ := hF
  refine hl_sld X hP (sc_ad hsc (hag.2 140 (by omega))) hr442 (k := (x4 + 1).toNatClampNeg) rfl dL_law_1319 ?_
  refine ph_aload_n (n := 0) X hl dL_law_1320 rfl rfl ?_
  refine ph_iload (n := 4) X hl dL_law_1321 rfl ?_
  refine lv_iconst (v := 2) X.1 X.2.1 dL_law_1323 (by decide) ?_
  refine lv_iadd X.1 X.2.1 dL_law_1324 ?_
  obtain ⟨hr443, hF⟩ := hF
  refine hl_sld X hP (sc_ad hsc (hag.2 140 (by omega))) hr443 (k := (x4 + 2).toNatClampNeg) rfl dL_law_1325 ?_
  refine ph_aload_n (n := 3) X hl dL_law_1326 rfl rfl ?_
  obtain ⟨hx444, hF⟩ := hF
  obtain ⟨hx445, hF⟩ := hF
  obtain ⟨hx446, hF⟩ := hF
  obtain ⟨hd447, hF⟩ := hF
  refine hl_callW [pX x1, iX (xs ((x4 + 1).toNatClampNeg)), iX (xs ((x4 + 2).toNatClampNeg)), pX x3] [] X hP (met_X0_fair l D dA ad hlt _ _ _ hF) (vx_cwSW 4 X.2.2.2.2.1 (lw_SW q1691 q1692 q97 q1693) rfl rfl rfl (by decide +kernel) ⟨Nat.le_of_ble_eq_true rfl, Nat.le_of_ble_eq_true rfl⟩) rfl hag hl (ltlp (ltk (by decide)) (ltlp hx446 (ltlp hx445 (ltlp hx444 (ltli ltln))))) ltsn (k8 := 0) (cs0 (k := 0)) (by decide) hd447 dL_law_1327 rfl (fun r451 ad g448 ι449 H locs hF X hP hag he450 hl => ?_)
  show W p l e ({ frames := 8192, cells := BC, slots := BS, locals := 100000 } : Room) s m args below meth c H locs (uc + 2) (us + 12) Zq (F0 m 1330 ls [.int r451])
  refine ph_istore X hl dL_law_1330 (by decide) rfl (fun ls hl => ?_)
  refine ph_aload_n (n := 3) X hl dL_law_1332 rfl rfl ?_
  refine ph_aload_n (n := 1) X hl dL_law_1333 rfl rfl ?_
  refine ph_iload (n := 5) X hl dL_law_1334 rfl ?_
  refine lv_iconst (v := 1) X.1 X.2.1 dL_law_1336 (by decide) ?_
  refine lv_iadd X.1 X.2.1 dL_law_1337 ?_
  obtain ⟨hr452, hF⟩ := hF
  refine hl_sld X hP (sc_ad hsc (hag.2 140 (by omega))) hr452 (k := (x4 + 1).toNatClampNeg) rfl dL_law_1338 ?_
  refine ph_aload_n (n := 1) X hl dL_law_1339 rfl rfl ?_
  refine ph_iload (n := 5) X hl dL_law_1340 rfl ?_
  refine lv_iconst (v := 2) X.1 X.2.1 dL_law_1342 (by decide) ?_
  refine lv_iadd X.1 X.2.1 dL_law_1343 ?_
  obtain ⟨hr453, hF⟩ := hF
  refine hl_sld X hP (sc_ad hsc (hag.2 140 (by omega))) hr453 (k := (x4 + 2).toNatClampNeg) rfl dL_law_1344 ?_
  obtain ⟨hT454, hF⟩ := hF
  refine hg_callTi [xs ((x4 + 1).toNatClampNeg), xs ((x4 + 2).toNatClampNeg)] X hP hT454 (met_X8_fair l D dA (adT ad x2) _ _ hF) (cwV 2 X.2.2.2.2.1 (lw_V q2334 q2335 q2336 q126 q2337) rfl rfl rfl (by decide +kernel) ⟨Nat.le_of_ble_eq_true rfl, Nat.le_of_ble_eq_true rfl⟩) rfl hl (k8 := 0) (cs0 (k := 0)) (by decide) hd447 dL_law_1345 rfl (fun r455 σ456 H locs hF hP => ?_)
  show W p l e ({ frames := 8192, cells := BC, slots := BS, locals := 100000 } : Room) s m args below meth c H locs (uc + 2) (us + 12) Zq (F0 m 1348 ls [.int r455])
  refine ph_istore X hl dL_law_1348 (by decide) rfl (fun ls hl => ?_)
  refine ph_aload_n (n := 4) X hl dL_law_1350 rfl rfl ?_
  obtain ⟨hT457, hF⟩ := hF
  refine hg_callTi [] X hP hT457 (met_X8_thrown l D dA (adT ad x2) _ _ hF) (cwV 0 X.2.2.2.2.1 (lw_V q1990 q1991 q1992 q126 q1993) rfl rfl rfl (by decide +kernel) ⟨Nat.le_of_ble_eq_true rfl, Nat.le_of_ble_eq_true rfl⟩) rfl hl (k8 := 0) (cs0 (k := 0)) (by decide) hd447 dL_law_1351 rfl (fun r458 σ459 H locs hF hP => ?_)
  show W p l e ({ frames := 8192, cells := BC, slots := BS, locals := 100000 } : Room) s m args below meth c H locs (uc + 2) (us + 12) Zq (F0 m 1354 ls [.int r458])
  refine ph_iload (n := 1) X hl dL_law_1354 rfl ?_
  refine lv_icmp_eq (tgt := 1361) X.1 X.2.1 dL_law_1356 (by decide) (fun c464 => ?_) (fun c464 => ?_)
  · have hF := hF.1 c464
    refine ph_iload (n := 1) X hl dL_law_1361 rfl ?_
    refine lv_if_ne (tgt := 1378) X.1 X.2.1 dL_law_1363 (by decide) (fun c463 => ?_) (fun c463 => ?_)
    · have hF := hF.1 c463
      exact w_X0_law_1378 hlt hsc hret hk23 _ _ _ _ _ _ _ _ _ _ _ _ hF X hP hag (lh_sub hl [2, 3, 4, 5, 6] rfl)
    · have hF := hF.2 c463
      refine ph_aload_n (n := 5) X hl dL_law_1366 rfl rfl ?_
      refine lv_iconst (v := 0) X.1 X.2.1 dL_law_1367 (by decide) ?_
      obtain ⟨hm460, hF⟩ := hF
      obtain ⟨hr461, hF⟩ := hF
      refine hl_lald X hP hm460 hr461 (k := 0) (by decide) dL_law_1368 ?_
      refine ph_iload (n := 0) X hl dL_law_1369 rfl ?_
      refine lv_i2l X.1 X.2.1 dL_law_1371 rfl ?_
      refine W.lcmp X.1 X.2.1 dL_law_1372 ?_
      refine lv_if_eq (tgt := 1378) X.1 X.2.1 dL_law_1373 (by decide) (fun c462 => ?_) (fun c462 => ?_)
      · have hF := hF.1 c462
        exact w_X0_law_1378 hlt hsc hret hk23 _ _ _ _ _ _ _ _ _ _ _ _ hF X hP hag (lh_sub hl [2, 3, 4, 5, 6] rfl)
      · have hF := hF.2 c462
        refine lv_iconst (v := 0) X.1 X.2.1 dL_law_1376 (by decide) ?_
        exact hret _ _ _ _ _ _ _ _ _ _ dL_law_1377 hF hd447 X hP
  · have hF := hF.2 c464
    refine lv_iconst (v := 0) X.1 X.2.1 dL_law_1359 (by decide) ?_
    exact hret _ _ _ _ _ _ _ _ _ _ dL_law_1360 hF hd447 X hP
set_option maxHeartbeats 2000000 in
theorem w_X0_law_1458 (hlt : l.stackTraces = false) {L : Nat} {xs : Nat → Int32} {Zq : State → Prop} (hsc : SC s A ad0 L xs) {BC BS : Nat} {Q : Int32 → GT → S → Prop} (hret : LRet p l e s m args below meth c D dA A L xs BC BS Q Zq) {k23 : Nat → Nat → Nat → Int32 → GT → S → Nat → Nat → Prop} (hk23 : ∀ (x1 : Nat) (x2 : Nat) (x3 : Nat) (x4 : Int32) (g : GT) (ι : S) (uc us : Nat) (ad : Nat → Nat) (H : Heap) (locs : List Loc) (ls : Array Slot), k23 x1 x2 x3 x4 g ι uc us → CX p s m args c meth cL_law 7 (some .boolean) RX0 D dA ad A → PW D dA A s.heap ad (HS g ι) H locs → HA ad0 g0 ad g → LH ad ls 7 [(0, pX 140), (1, pX x1), (2, pX x2), (3, pX x3), (4, iX x4)] → W p l e ({ frames := 8192, cells := BC, slots := BS, locals := 100000 } : Room) s m args below meth c H locs (uc) (us) Zq (F0 m 23 ls [])) : ∀ (x1 : Nat) (x2 : Nat) (x3 : Nat) (x4 : Int32) (g : GT) (ι : S) (uc us : Nat) (ad : Nat → Nat) (H : Heap) (locs : List Loc) (ls : Array Slot), P_X0_law_1458 L xs BC BS Q k23 x1 x2 x3 x4 g ι uc us → CX p s m args c meth cL_law 7 (some .boolean) RX0 D dA ad A → PW D dA A s.heap ad (HS g ι) H locs → HA ad0 g0 ad g → LH ad ls 7 [(0, pX 140), (1, pX x1), (2, pX x2), (3, pX x3), (4, iX x4)] → W p l e ({ frames := 8192, cells := BC, slots := BS, locals := 100000 } : Room) s m args below meth c H locs (uc) (us) Zq (F0 m 1458 ls []) := by
  intro x1 x2 x3 x4 g ι uc us ad H locs ls hF X hP hag hl
  unfold P_X0_law_1458 at hF
  refine lv_goto (tgt := 1690) X.1 X.2.1 dL_law_1458 (by decide) ?_
  refine ph_iinc (v := x4 + 6) (k := 4) X hl dL_law_1690 rfl rfl (by decide) rfl (fun ls hl => ?_)
  refine lv_goto (tgt := 23) X.1 X.2.1 dL_law_1693 (by decide) ?_
  exact hk23 _ _ _ _ _ _ _ _ _ _ _ _ hF X hP hag (lh_sub hl [1, 2, 3, 4, 0] rfl)
set_option maxHeartbeats 2000000 in
theorem w_X0_law_1381 (hlt : l.stackTraces = false) {L : Nat} {xs : Nat → Int32} {Zq : State → Prop} (hsc : SC s A ad0 L xs) {BC BS : Nat} {Q : Int32 → GT → S → Prop} (hret : LRet p l e s m args below meth c D dA A L xs BC BS Q Zq) {k23 : Nat → Nat → Nat → Int32 → GT → S → Nat → Nat → Prop} (hk23 : ∀ (x1 : Nat) (x2 : Nat) (x3 : Nat) (x4 : Int32) (g : GT) (ι : S) (uc us : Nat) (ad : Nat → Nat) (H : Heap) (locs : List Loc) (ls : Array Slot), k23 x1 x2 x3 x4 g ι uc us → CX p s m args c meth cL_law 7 (some .boolean) RX0 D dA ad A → PW D dA A s.heap ad (HS g ι) H locs → HA ad0 g0 ad g → LH ad ls 7 [(0, pX 140), (1, pX x1), (2, pX x2), (3, pX x3), (4, iX x4)] → W p l e ({ frames := 8192, cells := BC, slots := BS, locals := 100000 } : Room) s m args below meth c H locs (uc) (us) Zq (F0 m 23 ls [])) : ∀ (x1 : Nat) (x2 : Nat) (x3 : Nat) (x4 : Int32) (g : GT) (ι : S) (uc us : Nat) (ad : Nat → Nat) (H : Heap) (locs : List Loc) (ls : Array Slot), P_X0_law_1381 L xs BC BS Q k23 x1 x2 x3 x4 g ι uc us → CX p s m args c meth cL_law 7 (some .boolean) RX0 D dA ad A → PW D dA A s.heap ad (HS g ι) H locs → HA ad0 g0 ad g → LH ad ls 7 [(0, pX 140), (1, pX x1), (2, pX x2), (3, pX x3), (4, iX x4)] → W p l e ({ frames := 8192, cells := BC, slots := BS, locals := 100000 } : Room) s m args below meth c H locs (uc) (us) Zq (F0 m 1381 ls []) := by
  intro x1 x2 x3 x4 g ι uc us ad H locs ls hF X hP hag hl
  unfold P_X0_law_1381 at hF
  refine ph_aload_n (n := 1) X hl dL_law_1381 rfl rfl ?_
  refine ph_aload_n (n := 0) X hl dL_law_1382 rfl rfl ?_
  refine ph_iload (n := 4) X hl dL_law_1383 rfl ?_
  refine lv_iconst (v := 1) X.1 X.2.1 dL_law_1385 (by decide) ?_
  refine lv_iadd X.1 X.2.1 dL_law_1386 ?_
  obtain ⟨hr465, hF⟩ := hF
  refine hl_sld X hP (sc_ad hsc (hag.2 140 (by omega))) hr465 (k := (x4 + 1).toNatClampNeg) rfl dL_law_1387 ?_
  refine ph_aload_n (n := 0) X hl dL_law_1388 rfl rfl ?_
  refine ph_iload (n := 4) X hl dL_law_1389 rfl ?_
  refine lv_iconst (v := 2) X.1 X.2.1 dL_law_1391 (by decide) ?_
  refine lv_iadd X.1 X.2.1 dL_law_1392 ?_
  obtain ⟨hr466, hF⟩ := hF
  refine hl_sld X hP (sc_ad hsc (hag.2 140 (by omega))) hr466 (k := (x4 + 2).toNatClampNeg) rfl dL_law_1393 ?_
  refine ph_aload_n (n := 0) X hl dL_law_1394 rfl rfl ?_
  refine ph_iload (n := 4) X hl dL_law_1395 rfl ?_
  refine lv_iconst (v := 3) X.1 X.2.1 dL_law_1397 (by decide) ?_
  refine lv_iadd X.1 X.2.1 dL_law_1398 ?_
  obtain ⟨hr467, hF⟩ := hF
  refine hl_sld X hP (sc_ad hsc (hag.2 140 (by omega))) hr467 (k := (x4 + 3).toNatClampNeg) rfl dL_law_1399 ?_
  refine ph_aload_n (n := 3) X hl dL_law_1400 rfl rfl ?_
  obtain ⟨hx468, hF⟩ := hF
  obtain ⟨hx469, hF⟩ := hF
  obtain ⟨hx470, hF⟩ := hF
  obtain ⟨hd471, hF⟩ := hF
  refine hl_callW [pX x1, iX (xs ((x4 + 1).toNatClampNeg)), iX (xs ((x4 + 2).toNatClampNeg)), iX (xs ((x4 + 3).toNatClampNeg)), pX x3] [] X hP (met_X0_see l D dA ad hlt _ _ _ hF) (vx_cwSW 5 X.2.2.2.2.1 (lw_SW q1703 q1704 q97 q1705) rfl rfl rfl (by decide +kernel) ⟨Nat.le_of_ble_eq_true rfl, Nat.le_of_ble_eq_true rfl⟩) rfl hag hl (ltlp (ltk (by decide)) (ltlp hx470 (ltlp hx469 (ltlp hx468 (ltli ltln))))) ltsn (k8 := 0) (cs0 (k := 0)) (by decide) hd471 dL_law_1401 rfl (fun r475 ad g472 ι473 H locs hF X hP hag he474 hl => ?_)
  show W p l e ({ frames := 8192, cells := BC, slots := BS, locals := 100000 } : Room) s m args below meth c H locs (uc + 1) (us + 6) Zq (F0 m 1404 ls [.int r475])
  refine ph_istore X hl dL_law_1404 (by decide) rfl (fun ls hl => ?_)
  refine ph_aload_n (n := 3) X hl dL_law_1406 rfl rfl ?_
  refine ph_aload_n (n := 1) X hl dL_law_1407 rfl rfl ?_
  refine ph_iload (n := 5) X hl dL_law_1408 rfl ?_
  refine lv_iconst (v := 1) X.1 X.2.1 dL_law_1410 (by decide) ?_
  refine lv_iadd X.1 X.2.1 dL_law_1411 ?_
  obtain ⟨hr476, hF⟩ := hF
  refine hl_sld X hP (sc_ad hsc (hag.2 140 (by omega))) hr476 (k := (x4 + 1).toNatClampNeg) rfl dL_law_1412 ?_
  refine ph_aload_n (n := 1) X hl dL_law_1413 rfl rfl ?_
  refine ph_iload (n := 5) X hl dL_law_1414 rfl ?_
  refine lv_iconst (v := 2) X.1 X.2.1 dL_law_1416 (by decide) ?_
  refine lv_iadd X.1 X.2.1 dL_law_1417 ?_
  obtain ⟨hr477, hF⟩ := hF
  refine hl_sld X hP (sc_ad hsc (hag.2 140 (by omega))) hr477 (k := (x4 + 2).toNatClampNeg) rfl dL_law_1418 ?_
  refine ph_aload_n (n := 1) X hl dL_law_1419 rfl rfl ?_
  refine ph_iload (n := 5) X hl dL_law_1420 rfl ?_
  refine lv_iconst (v := 3) X.1 X.2.1 dL_law_1422 (by decide) ?_
  refine lv_iadd X.1 X.2.1 dL_law_1423 ?_
  obtain ⟨hr478, hF⟩ := hF
  refine hl_sld X hP (sc_ad hsc (hag.2 140 (by omega))) hr478 (k := (x4 + 3).toNatClampNeg) rfl dL_law_1424 ?_
  obtain ⟨hT479, hF⟩ := hF
  refine hg_callTi [xs ((x4 + 1).toNatClampNeg), xs ((x4 + 2).toNatClampNeg), xs ((x4 + 3).toNatClampNeg)] X hP hT479 (met_X8_see l D dA (adT ad x2) _ _ hF) (cwV 3 X.2.2.2.2.1 (lw_V q2340 q2341 q2342 q126 q2343) rfl rfl rfl (by decide +kernel) ⟨Nat.le_of_ble_eq_true rfl, Nat.le_of_ble_eq_true rfl⟩) rfl hl (k8 := 0) (cs0 (k := 0)) (by decide) hd471 dL_law_1425 rfl (fun r480 σ481 H locs hF hP => ?_)
  show W p l e ({ frames := 8192, cells := BC, slots := BS, locals := 100000 } : Room) s m args below meth c H locs (uc + 1) (us + 6) Zq (F0 m 1428 ls [.int r480])
  refine ph_istore X hl dL_law_1428 (by decide) rfl (fun ls hl => ?_)
  refine ph_aload_n (n := 4) X hl dL_law_1430 rfl rfl ?_
  obtain ⟨hT482, hF⟩ := hF
  refine hg_callTi [] X hP hT482 (met_X8_thrown l D dA (adT ad x2) _ _ hF) (cwV 0 X.2.2.2.2.1 (lw_V q1990 q1991 q1992 q126 q1993) rfl rfl rfl (by decide +kernel) ⟨Nat.le_of_ble_eq_true rfl, Nat.le_of_ble_eq_true rfl⟩) rfl hl (k8 := 0) (cs0 (k := 0)) (by decide) hd471 dL_law_1431 rfl (fun r483 σ484 H locs hF hP => ?_)
  show W p l e ({ frames := 8192, cells := BC, slots := BS, locals := 100000 } : Room) s m args below meth c H locs (uc + 1) (us + 6) Zq (F0 m 1434 ls [.int r483])
  refine ph_iload (n := 1) X hl dL_law_1434 rfl ?_
  refine lv_icmp_eq (tgt := 1441) X.1 X.2.1 dL_law_1436 (by decide) (fun c489 => ?_) (fun c489 => ?_)
  · have hF := hF.1 c489
    refine ph_iload (n := 1) X hl dL_law_1441 rfl ?_
    refine lv_if_ne (tgt := 1458) X.1 X.2.1 dL_law_1443 (by decide) (fun c488 => ?_) (fun c488 => ?_)
    · have hF := hF.1 c488
      exact w_X0_law_1458 hlt hsc hret hk23 _ _ _ _ _ _ _ _ _ _ _ _ hF X hP hag (lh_sub hl [2, 3, 4, 5, 6] rfl)
    · have hF := hF.2 c488
      refine ph_aload_n (n := 5) X hl dL_law_1446 rfl rfl ?_
      refine lv_iconst (v := 0) X.1 X.2.1 dL_law_1447 (by decide) ?_
      obtain ⟨hm485, hF⟩ := hF
      obtain ⟨hr486, hF⟩ := hF
      refine hl_lald X hP hm485 hr486 (k := 0) (by decide) dL_law_1448 ?_
      refine ph_iload (n := 0) X hl dL_law_1449 rfl ?_
      refine lv_i2l X.1 X.2.1 dL_law_1451 rfl ?_
      refine W.lcmp X.1 X.2.1 dL_law_1452 ?_
      refine lv_if_eq (tgt := 1458) X.1 X.2.1 dL_law_1453 (by decide) (fun c487 => ?_) (fun c487 => ?_)
      · have hF := hF.1 c487
        exact w_X0_law_1458 hlt hsc hret hk23 _ _ _ _ _ _ _ _ _ _ _ _ hF X hP hag (lh_sub hl [2, 3, 4, 5, 6] rfl)
      · have hF := hF.2 c487
        refine lv_iconst (v := 0) X.1 X.2.1 dL_law_1456 (by decide) ?_
        exact hret _ _ _ _ _ _ _ _ _ _ dL_law_1457 hF hd471 X hP
  · have hF := hF.2 c489
    refine lv_iconst (v := 0) X.1 X.2.1 dL_law_1439 (by decide) ?_
    exact hret _ _ _ _ _ _ _ _ _ _ dL_law_1440 hF hd471 X hP
set_option maxHeartbeats 2000000 in
theorem w_X0_law_1461 (hlt : l.stackTraces = false) {L : Nat} {xs : Nat → Int32} {Zq : State → Prop} (hsc : SC s A ad0 L xs) {BC BS : Nat} {Q : Int32 → GT → S → Prop} (hret : LRet p l e s m args below meth c D dA A L xs BC BS Q Zq) {k23 : Nat → Nat → Nat → Int32 → GT → S → Nat → Nat → Prop} (hk23 : ∀ (x1 : Nat) (x2 : Nat) (x3 : Nat) (x4 : Int32) (g : GT) (ι : S) (uc us : Nat) (ad : Nat → Nat) (H : Heap) (locs : List Loc) (ls : Array Slot), k23 x1 x2 x3 x4 g ι uc us → CX p s m args c meth cL_law 7 (some .boolean) RX0 D dA ad A → PW D dA A s.heap ad (HS g ι) H locs → HA ad0 g0 ad g → LH ad ls 7 [(0, pX 140), (1, pX x1), (2, pX x2), (3, pX x3), (4, iX x4)] → W p l e ({ frames := 8192, cells := BC, slots := BS, locals := 100000 } : Room) s m args below meth c H locs (uc) (us) Zq (F0 m 23 ls [])) : ∀ (x1 : Nat) (x2 : Nat) (x3 : Nat) (x4 : Int32) (g : GT) (ι : S) (uc us : Nat) (ad : Nat → Nat) (H : Heap) (locs : List Loc) (ls : Array Slot), P_X0_law_1461 L xs BC BS Q k23 x1 x2 x3 x4 g ι uc us → CX p s m args c meth cL_law 7 (some .boolean) RX0 D dA ad A → PW D dA A s.heap ad (HS g ι) H locs → HA ad0 g0 ad g → LH ad ls 7 [(0, pX 140), (1, pX x1), (2, pX x2), (3, pX x3), (4, iX x4)] → W p l e ({ frames := 8192, cells := BC, slots := BS, locals := 100000 } : Room) s m args below meth c H locs (uc) (us) Zq (F0 m 1461 ls []) := by
  intro x1 x2 x3 x4 g ι uc us ad H locs ls hF X hP hag hl
  unfold P_X0_law_1461 at hF
  refine ph_aload_n (n := 1) X hl dL_law_1461 rfl rfl ?_
  obtain ⟨hd490, hF⟩ := hF
  obtain ⟨hm494, hF⟩ := hF
  refine cg_callVi 1 [] X hP hm494 (met_X1_forget l D dA ad g _ _ hF) (cwV 0 X.2.2.2.2.1 (lw_V q1135 q1136 q1137 q98 q1138) rfl rfl rfl (by decide +kernel) ⟨Nat.le_of_ble_eq_true rfl, Nat.le_of_ble_eq_true rfl⟩) rfl hl (k8 := 0) (cs0 (k := 0)) (by decide) hd490 dL_law_1462 rfl (fun r491 ι492 H locs hF hP => ?_)
  refine ph_aload_n (n := 2) X hl dL_law_1465 rfl rfl ?_
  obtain ⟨hT495, hF⟩ := hF
  refine hg_callTi [] X hP hT495 (met_X8_forget l D dA (adT ad x2) _ _ hF) (cwV 0 X.2.2.2.2.1 (lw_V q2344 q2345 q2346 q126 q2347) rfl rfl rfl (by decide +kernel) ⟨Nat.le_of_ble_eq_true rfl, Nat.le_of_ble_eq_true rfl⟩) rfl hl (k8 := 1) (csi (cs0 (k := 0))) (by decide) hd490 dL_law_1466 rfl (fun r496 σ497 H locs hF hP => ?_)
  show W p l e ({ frames := 8192, cells := BC, slots := BS, locals := 100000 } : Room) s m args below meth c H locs (uc) (us) Zq (F0 m 1469 ls [.int r496, .int r491])
  refine lv_icmp_eq (tgt := 1690) X.1 X.2.1 dL_law_1469 (by decide) (fun c498 => ?_) (fun c498 => ?_)
  · have hF := hF.1 c498
    refine ph_iinc (v := x4 + 6) (k := 4) X hl dL_law_1690 rfl rfl (by decide) rfl (fun ls hl => ?_)
    refine lv_goto (tgt := 23) X.1 X.2.1 dL_law_1693 (by decide) ?_
    exact hk23 _ _ _ _ _ _ _ _ _ _ _ _ hF X hP hag (lh_sub hl [1, 2, 3, 4, 0] rfl)
  · have hF := hF.2 c498
    refine lv_iconst (v := 0) X.1 X.2.1 dL_law_1472 (by decide) ?_
    exact hret _ _ _ _ _ _ _ _ _ _ dL_law_1473 hF hd490 X hP
set_option maxHeartbeats 2000000 in
theorem w_X0_law_1527 (hlt : l.stackTraces = false) {L : Nat} {xs : Nat → Int32} {Zq : State → Prop} (hsc : SC s A ad0 L xs) {BC BS : Nat} {Q : Int32 → GT → S → Prop} (hret : LRet p l e s m args below meth c D dA A L xs BC BS Q Zq) {k23 : Nat → Nat → Nat → Int32 → GT → S → Nat → Nat → Prop} (hk23 : ∀ (x1 : Nat) (x2 : Nat) (x3 : Nat) (x4 : Int32) (g : GT) (ι : S) (uc us : Nat) (ad : Nat → Nat) (H : Heap) (locs : List Loc) (ls : Array Slot), k23 x1 x2 x3 x4 g ι uc us → CX p s m args c meth cL_law 7 (some .boolean) RX0 D dA ad A → PW D dA A s.heap ad (HS g ι) H locs → HA ad0 g0 ad g → LH ad ls 7 [(0, pX 140), (1, pX x1), (2, pX x2), (3, pX x3), (4, iX x4)] → W p l e ({ frames := 8192, cells := BC, slots := BS, locals := 100000 } : Room) s m args below meth c H locs (uc) (us) Zq (F0 m 23 ls [])) : ∀ (x1 : Nat) (x2 : Nat) (x3 : Nat) (x4 : Int32) (g : GT) (ι : S) (uc us : Nat) (ad : Nat → Nat) (H : Heap) (locs : List Loc) (ls : Array Slot), P_X0_law_1527 L xs BC BS Q k23 x1 x2 x3 x4 g ι uc us → CX p s m args c meth cL_law 7 (some .boolean) RX0 D dA ad A → PW D dA A s.heap ad (HS g ι) H locs → HA ad0 g0 ad g → LH ad ls 7 [(0, pX 140), (1, pX x1), (2, pX x2), (3, pX x3), (4, iX x4)] → W p l e ({ frames := 8192, cells := BC, slots := BS, locals := 100000 } : Room) s m args below meth c H locs (uc) (us) Zq (F0 m 1527 ls []) := by
  intro x1 x2 x3 x4 g ι uc us ad H locs ls hF X hP hag hl
  unfold P_X0_law_1527 at hF
  refine lv_goto (tgt := 1690) X.1 X.2.1 dL_law_1527 (by decide) ?_
  refine ph_iinc (v := x4 + 6) (k := 4) X hl dL_law_1690 rfl rfl (by decide) rfl (fun ls hl => ?_)
  refine lv_goto (tgt := 23) X.1 X.2.1 dL_law_1693 (by decide) ?_
  exact hk23 _ _ _ _ _ _ _ _ _ _ _ _ hF X hP hag (lh_sub hl [1, 2, 3, 4, 0] rfl)
set_option maxHeartbeats 2000000 in
theorem w_X0_law_1474 (hlt : l.stackTraces = false) {L : Nat} {xs : Nat → Int32} {Zq : State → Prop} (hsc : SC s A ad0 L xs) {BC BS : Nat} {Q : Int32 → GT → S → Prop} (hret : LRet p l e s m args below meth c D dA A L xs BC BS Q Zq) {k23 : Nat → Nat → Nat → Int32 → GT → S → Nat → Nat → Prop} (hk23 : ∀ (x1 : Nat) (x2 : Nat) (x3 : Nat) (x4 : Int32) (g : GT) (ι : S) (uc us : Nat) (ad : Nat → Nat) (H : Heap) (locs : List Loc) (ls : Array Slot), k23 x1 x2 x3 x4 g ι uc us → CX p s m args c meth cL_law 7 (some .boolean) RX0 D dA ad A → PW D dA A s.heap ad (HS g ι) H locs → HA ad0 g0 ad g → LH ad ls 7 [(0, pX 140), (1, pX x1), (2, pX x2), (3, pX x3), (4, iX x4)] → W p l e ({ frames := 8192, cells := BC, slots := BS, locals := 100000 } : Room) s m args below meth c H locs (uc) (us) Zq (F0 m 23 ls [])) : ∀ (x1 : Nat) (x2 : Nat) (x3 : Nat) (x4 : Int32) (g : GT) (ι : S) (uc us : Nat) (ad : Nat → Nat) (H : Heap) (locs : List Loc) (ls : Array Slot), P_X0_law_1474 L xs BC BS Q k23 x1 x2 x3 x4 g ι uc us → CX p s m args c meth cL_law 7 (some .boolean) RX0 D dA ad A → PW D dA A s.heap ad (HS g ι) H locs → HA ad0 g0 ad g → LH ad ls 7 [(0, pX 140), (1, pX x1), (2, pX x2), (3, pX x3), (4, iX x4)] → W p l e ({ frames := 8192, cells := BC, slots := BS, locals := 100000 } : Room) s m args below meth c H locs (uc) (us) Zq (F0 m 1474 ls []) := by
  intro x1 x2 x3 x4 g ι uc us ad H locs ls hF X hP hag hl
  unfold P_X0_law_1474 at hF
  refine ph_aload_n (n := 1) X hl dL_law_1474 rfl rfl ?_
  refine ph_aload_n (n := 0) X hl dL_law_1475 rfl rfl ?_
  refine ph_iload (n := 4) X hl dL_law_1476 rfl ?_
  refine lv_iconst (v := 1) X.1 X.2.1 dL_law_1478 (by decide) ?_
  refine lv_iadd X.1 X.2.1 dL_law_1479 ?_
  obtain ⟨hr499, hF⟩ := hF
  refine hl_sld X hP (sc_ad hsc (hag.2 140 (by omega))) hr499 (k := (x4 + 1).toNatClampNeg) rfl dL_law_1480 ?_
  refine ph_aload_n (n := 3) X hl dL_law_1481 rfl rfl ?_
  obtain ⟨hx500, hF⟩ := hF
  obtain ⟨hx501, hF⟩ := hF
  obtain ⟨hx502, hF⟩ := hF
  obtain ⟨hd503, hF⟩ := hF
  refine hl_callW [pX x1, iX (xs ((x4 + 1).toNatClampNeg)), pX x3] [] X hP (met_X0_fits l D dA ad hlt _ _ _ hF) (vx_cwSW 3 X.2.2.2.2.1 (lw_SW q1710 q1711 q97 q1712) rfl rfl rfl (by decide +kernel) ⟨Nat.le_of_ble_eq_true rfl, Nat.le_of_ble_eq_true rfl⟩) rfl hag hl (ltlp (ltk (by decide)) (ltlp hx502 (ltlp hx501 (ltlp hx500 (ltli ltln))))) ltsn (k8 := 0) (cs0 (k := 0)) (by decide) hd503 dL_law_1482 rfl (fun r507 ad g504 ι505 H locs hF X hP hag he506 hl => ?_)
  show W p l e ({ frames := 8192, cells := BC, slots := BS, locals := 100000 } : Room) s m args below meth c H locs (uc + 1) (us + 6) Zq (F0 m 1485 ls [.int r507])
  refine ph_istore X hl dL_law_1485 (by decide) rfl (fun ls hl => ?_)
  refine ph_aload_n (n := 3) X hl dL_law_1487 rfl rfl ?_
  refine ph_aload_n (n := 1) X hl dL_law_1488 rfl rfl ?_
  refine ph_iload (n := 5) X hl dL_law_1489 rfl ?_
  refine lv_iconst (v := 1) X.1 X.2.1 dL_law_1491 (by decide) ?_
  refine lv_iadd X.1 X.2.1 dL_law_1492 ?_
  obtain ⟨hr508, hF⟩ := hF
  refine hl_sld X hP (sc_ad hsc (hag.2 140 (by omega))) hr508 (k := (x4 + 1).toNatClampNeg) rfl dL_law_1493 ?_
  obtain ⟨hT509, hF⟩ := hF
  refine hg_callTi [xs ((x4 + 1).toNatClampNeg)] X hP hT509 (met_X8_fits l D dA (adT ad x2) _ _ hF) (cwV 1 X.2.2.2.2.1 (lw_V q2348 q2349 q2350 q126 q2351) rfl rfl rfl (by decide +kernel) ⟨Nat.le_of_ble_eq_true rfl, Nat.le_of_ble_eq_true rfl⟩) rfl hl (k8 := 0) (cs0 (k := 0)) (by decide) hd503 dL_law_1494 rfl (fun r510 σ511 H locs hF hP => ?_)
  show W p l e ({ frames := 8192, cells := BC, slots := BS, locals := 100000 } : Room) s m args below meth c H locs (uc + 1) (us + 6) Zq (F0 m 1497 ls [.int r510])
  refine ph_istore X hl dL_law_1497 (by decide) rfl (fun ls hl => ?_)
  refine ph_aload_n (n := 4) X hl dL_law_1499 rfl rfl ?_
  obtain ⟨hT512, hF⟩ := hF
  refine hg_callTi [] X hP hT512 (met_X8_thrown l D dA (adT ad x2) _ _ hF) (cwV 0 X.2.2.2.2.1 (lw_V q1990 q1991 q1992 q126 q1993) rfl rfl rfl (by decide +kernel) ⟨Nat.le_of_ble_eq_true rfl, Nat.le_of_ble_eq_true rfl⟩) rfl hl (k8 := 0) (cs0 (k := 0)) (by decide) hd503 dL_law_1500 rfl (fun r513 σ514 H locs hF hP => ?_)
  show W p l e ({ frames := 8192, cells := BC, slots := BS, locals := 100000 } : Room) s m args below meth c H locs (uc + 1) (us + 6) Zq (F0 m 1503 ls [.int r513])
  refine ph_iload (n := 1) X hl dL_law_1503 rfl ?_
  refine lv_icmp_eq (tgt := 1510) X.1 X.2.1 dL_law_1505 (by decide) (fun c519 => ?_) (fun c519 => ?_)
  · have hF := hF.1 c519
    refine ph_iload (n := 1) X hl dL_law_1510 rfl ?_
    refine lv_if_ne (tgt := 1527) X.1 X.2.1 dL_law_1512 (by decide) (fun c518 => ?_) (fun c518 => ?_)
    · have hF := hF.1 c518
      exact w_X0_law_1527 hlt hsc hret hk23 _ _ _ _ _ _ _ _ _ _ _ _ hF X hP hag (lh_sub hl [2, 3, 4, 5, 6] rfl)
    · have hF := hF.2 c518
      refine ph_aload_n (n := 5) X hl dL_law_1515 rfl rfl ?_
      refine lv_iconst (v := 0) X.1 X.2.1 dL_law_1516 (by decide) ?_
      obtain ⟨hm515, hF⟩ := hF
      obtain ⟨hr516, hF⟩ := hF
      refine hl_lald X hP hm515 hr516 (k := 0) (by decide) dL_law_1517 ?_
      refine ph_iload (n := 0) X hl dL_law_1518 rfl ?_
      refine lv_i2l X.1 X.2.1 dL_law_1520 rfl ?_
      refine W.lcmp X.1 X.2.1 dL_law_1521 ?_
      refine lv_if_eq (tgt := 1527) X.1 X.2.1 dL_law_1522 (by decide) (fun c517 => ?_) (fun c517 => ?_)
      · have hF := hF.1 c517
        exact w_X0_law_1527 hlt hsc hret hk23 _ _ _ _ _ _ _ _ _ _ _ _ hF X hP hag (lh_sub hl [2, 3, 4, 5, 6] rfl)
      · have hF := hF.2 c517
        refine lv_iconst (v := 0) X.1 X.2.1 dL_law_1525 (by decide) ?_
        exact hret _ _ _ _ _ _ _ _ _ _ dL_law_1526 hF hd503 X hP
  · have hF := hF.2 c519
    refine lv_iconst (v := 0) X.1 X.2.1 dL_law_1508 (by decide) ?_
    exact hret _ _ _ _ _ _ _ _ _ _ dL_law_1509 hF hd503 X hP
set_option maxHeartbeats 2000000 in
theorem w_X0_law_1583 (hlt : l.stackTraces = false) {L : Nat} {xs : Nat → Int32} {Zq : State → Prop} (hsc : SC s A ad0 L xs) {BC BS : Nat} {Q : Int32 → GT → S → Prop} (hret : LRet p l e s m args below meth c D dA A L xs BC BS Q Zq) {k23 : Nat → Nat → Nat → Int32 → GT → S → Nat → Nat → Prop} (hk23 : ∀ (x1 : Nat) (x2 : Nat) (x3 : Nat) (x4 : Int32) (g : GT) (ι : S) (uc us : Nat) (ad : Nat → Nat) (H : Heap) (locs : List Loc) (ls : Array Slot), k23 x1 x2 x3 x4 g ι uc us → CX p s m args c meth cL_law 7 (some .boolean) RX0 D dA ad A → PW D dA A s.heap ad (HS g ι) H locs → HA ad0 g0 ad g → LH ad ls 7 [(0, pX 140), (1, pX x1), (2, pX x2), (3, pX x3), (4, iX x4)] → W p l e ({ frames := 8192, cells := BC, slots := BS, locals := 100000 } : Room) s m args below meth c H locs (uc) (us) Zq (F0 m 23 ls [])) : ∀ (x1 : Nat) (x2 : Nat) (x3 : Nat) (x4 : Int32) (g : GT) (ι : S) (uc us : Nat) (ad : Nat → Nat) (H : Heap) (locs : List Loc) (ls : Array Slot), P_X0_law_1583 L xs BC BS Q k23 x1 x2 x3 x4 g ι uc us → CX p s m args c meth cL_law 7 (some .boolean) RX0 D dA ad A → PW D dA A s.heap ad (HS g ι) H locs → HA ad0 g0 ad g → LH ad ls 7 [(0, pX 140), (1, pX x1), (2, pX x2), (3, pX x3), (4, iX x4)] → W p l e ({ frames := 8192, cells := BC, slots := BS, locals := 100000 } : Room) s m args below meth c H locs (uc) (us) Zq (F0 m 1583 ls []) := by
  intro x1 x2 x3 x4 g ι uc us ad H locs ls hF X hP hag hl
  unfold P_X0_law_1583 at hF
  refine lv_goto (tgt := 1690) X.1 X.2.1 dL_law_1583 (by decide) ?_
  refine ph_iinc (v := x4 + 6) (k := 4) X hl dL_law_1690 rfl rfl (by decide) rfl (fun ls hl => ?_)
  refine lv_goto (tgt := 23) X.1 X.2.1 dL_law_1693 (by decide) ?_
  exact hk23 _ _ _ _ _ _ _ _ _ _ _ _ hF X hP hag (lh_sub hl [1, 2, 3, 4, 0] rfl)
set_option maxHeartbeats 2000000 in
theorem w_X0_law_1530 (hlt : l.stackTraces = false) {L : Nat} {xs : Nat → Int32} {Zq : State → Prop} (hsc : SC s A ad0 L xs) {BC BS : Nat} {Q : Int32 → GT → S → Prop} (hret : LRet p l e s m args below meth c D dA A L xs BC BS Q Zq) {k23 : Nat → Nat → Nat → Int32 → GT → S → Nat → Nat → Prop} (hk23 : ∀ (x1 : Nat) (x2 : Nat) (x3 : Nat) (x4 : Int32) (g : GT) (ι : S) (uc us : Nat) (ad : Nat → Nat) (H : Heap) (locs : List Loc) (ls : Array Slot), k23 x1 x2 x3 x4 g ι uc us → CX p s m args c meth cL_law 7 (some .boolean) RX0 D dA ad A → PW D dA A s.heap ad (HS g ι) H locs → HA ad0 g0 ad g → LH ad ls 7 [(0, pX 140), (1, pX x1), (2, pX x2), (3, pX x3), (4, iX x4)] → W p l e ({ frames := 8192, cells := BC, slots := BS, locals := 100000 } : Room) s m args below meth c H locs (uc) (us) Zq (F0 m 23 ls [])) : ∀ (x1 : Nat) (x2 : Nat) (x3 : Nat) (x4 : Int32) (g : GT) (ι : S) (uc us : Nat) (ad : Nat → Nat) (H : Heap) (locs : List Loc) (ls : Array Slot), P_X0_law_1530 L xs BC BS Q k23 x1 x2 x3 x4 g ι uc us → CX p s m args c meth cL_law 7 (some .boolean) RX0 D dA ad A → PW D dA A s.heap ad (HS g ι) H locs → HA ad0 g0 ad g → LH ad ls 7 [(0, pX 140), (1, pX x1), (2, pX x2), (3, pX x3), (4, iX x4)] → W p l e ({ frames := 8192, cells := BC, slots := BS, locals := 100000 } : Room) s m args below meth c H locs (uc) (us) Zq (F0 m 1530 ls []) := by
  intro x1 x2 x3 x4 g ι uc us ad H locs ls hF X hP hag hl
  unfold P_X0_law_1530 at hF
  refine ph_aload_n (n := 1) X hl dL_law_1530 rfl rfl ?_
  refine ph_aload_n (n := 0) X hl dL_law_1531 rfl rfl ?_
  refine ph_iload (n := 4) X hl dL_law_1532 rfl ?_
  refine lv_iconst (v := 1) X.1 X.2.1 dL_law_1534 (by decide) ?_
  refine lv_iadd X.1 X.2.1 dL_law_1535 ?_
  obtain ⟨hr520, hF⟩ := hF
  refine hl_sld X hP (sc_ad hsc (hag.2 140 (by omega))) hr520 (k := (x4 + 1).toNatClampNeg) rfl dL_law_1536 ?_
  refine ph_aload_n (n := 3) X hl dL_law_1537 rfl rfl ?_
  obtain ⟨hx521, hF⟩ := hF
  obtain ⟨hx522, hF⟩ := hF
  obtain ⟨hx523, hF⟩ := hF
  obtain ⟨hd524, hF⟩ := hF
  refine hl_callW [pX x1, iX (xs ((x4 + 1).toNatClampNeg)), pX x3] [] X hP (met_X0_without l D dA ad hlt _ _ _ hF) (vx_cwSW 3 X.2.2.2.2.1 (lw_SW q1728 q1729 q97 q1730) rfl rfl rfl (by decide +kernel) ⟨Nat.le_of_ble_eq_true rfl, Nat.le_of_ble_eq_true rfl⟩) rfl hag hl (ltlp (ltk (by decide)) (ltlp hx523 (ltlp hx522 (ltlp hx521 (ltli ltln))))) ltsn (k8 := 0) (cs0 (k := 0)) (by decide) hd524 dL_law_1538 rfl (fun r528 ad g525 ι526 H locs hF X hP hag he527 hl => ?_)
  show W p l e ({ frames := 8192, cells := BC, slots := BS, locals := 100000 } : Room) s m args below meth c H locs (uc + 1) (us + 6) Zq (F0 m 1541 ls [.int r528])
  refine ph_istore X hl dL_law_1541 (by decide) rfl (fun ls hl => ?_)
  refine ph_aload_n (n := 3) X hl dL_law_1543 rfl rfl ?_
  refine ph_aload_n (n := 1) X hl dL_law_1544 rfl rfl ?_
  refine ph_iload (n := 5) X hl dL_law_1545 rfl ?_
  refine lv_iconst (v := 1) X.1 X.2.1 dL_law_1547 (by decide) ?_
  refine lv_iadd X.1 X.2.1 dL_law_1548 ?_
  obtain ⟨hr529, hF⟩ := hF
  refine hl_sld X hP (sc_ad hsc (hag.2 140 (by omega))) hr529 (k := (x4 + 1).toNatClampNeg) rfl dL_law_1549 ?_
  obtain ⟨hT530, hF⟩ := hF
  refine hg_callTi [xs ((x4 + 1).toNatClampNeg)] X hP hT530 (met_X8_without l D dA (adT ad x2) _ _ hF) (cwV 1 X.2.2.2.2.1 (lw_V q2356 q2357 q2358 q126 q2359) rfl rfl rfl (by decide +kernel) ⟨Nat.le_of_ble_eq_true rfl, Nat.le_of_ble_eq_true rfl⟩) rfl hl (k8 := 0) (cs0 (k := 0)) (by decide) hd524 dL_law_1550 rfl (fun r531 σ532 H locs hF hP => ?_)
  show W p l e ({ frames := 8192, cells := BC, slots := BS, locals := 100000 } : Room) s m args below meth c H locs (uc + 1) (us + 6) Zq (F0 m 1553 ls [.int r531])
  refine ph_istore X hl dL_law_1553 (by decide) rfl (fun ls hl => ?_)
  refine ph_aload_n (n := 4) X hl dL_law_1555 rfl rfl ?_
  obtain ⟨hT533, hF⟩ := hF
  refine hg_callTi [] X hP hT533 (met_X8_thrown l D dA (adT ad x2) _ _ hF) (cwV 0 X.2.2.2.2.1 (lw_V q1990 q1991 q1992 q126 q1993) rfl rfl rfl (by decide +kernel) ⟨Nat.le_of_ble_eq_true rfl, Nat.le_of_ble_eq_true rfl⟩) rfl hl (k8 := 0) (cs0 (k := 0)) (by decide) hd524 dL_law_1556 rfl (fun r534 σ535 H locs hF hP => ?_)
  show W p l e ({ frames := 8192, cells := BC, slots := BS, locals := 100000 } : Room) s m args below meth c H locs (uc + 1) (us + 6) Zq (F0 m 1559 ls [.int r534])
  refine ph_iload (n := 1) X hl dL_law_1559 rfl ?_
  refine lv_icmp_eq (tgt := 1566) X.1 X.2.1 dL_law_1561 (by decide) (fun c540 => ?_) (fun c540 => ?_)
  · have hF := hF.1 c540
    refine ph_iload (n := 1) X hl dL_law_1566 rfl ?_
    refine lv_if_ne (tgt := 1583) X.1 X.2.1 dL_law_1568 (by decide) (fun c539 => ?_) (fun c539 => ?_)
    · have hF := hF.1 c539
      exact w_X0_law_1583 hlt hsc hret hk23 _ _ _ _ _ _ _ _ _ _ _ _ hF X hP hag (lh_sub hl [2, 3, 4, 5, 6] rfl)
    · have hF := hF.2 c539
      refine ph_aload_n (n := 5) X hl dL_law_1571 rfl rfl ?_
      refine lv_iconst (v := 0) X.1 X.2.1 dL_law_1572 (by decide) ?_
      obtain ⟨hm536, hF⟩ := hF
      obtain ⟨hr537, hF⟩ := hF
      refine hl_lald X hP hm536 hr537 (k := 0) (by decide) dL_law_1573 ?_
      refine ph_iload (n := 0) X hl dL_law_1574 rfl ?_
      refine lv_i2l X.1 X.2.1 dL_law_1576 rfl ?_
      refine W.lcmp X.1 X.2.1 dL_law_1577 ?_
      refine lv_if_eq (tgt := 1583) X.1 X.2.1 dL_law_1578 (by decide) (fun c538 => ?_) (fun c538 => ?_)
      · have hF := hF.1 c538
        exact w_X0_law_1583 hlt hsc hret hk23 _ _ _ _ _ _ _ _ _ _ _ _ hF X hP hag (lh_sub hl [2, 3, 4, 5, 6] rfl)
      · have hF := hF.2 c538
        refine lv_iconst (v := 0) X.1 X.2.1 dL_law_1581 (by decide) ?_
        exact hret _ _ _ _ _ _ _ _ _ _ dL_law_1582 hF hd524 X hP
  · have hF := hF.2 c540
    refine lv_iconst (v := 0) X.1 X.2.1 dL_law_1564 (by decide) ?_
    exact hret _ _ _ _ _ _ _ _ _ _ dL_law_1565 hF hd524 X hP
set_option maxHeartbeats 2000000 in
theorem w_X0_law_1663 (hlt : l.stackTraces = false) {L : Nat} {xs : Nat → Int32} {Zq : State → Prop} (hsc : SC s A ad0 L xs) {BC BS : Nat} {Q : Int32 → GT → S → Prop} (hret : LRet p l e s m args below meth c D dA A L xs BC BS Q Zq) {k23 : Nat → Nat → Nat → Int32 → GT → S → Nat → Nat → Prop} (hk23 : ∀ (x1 : Nat) (x2 : Nat) (x3 : Nat) (x4 : Int32) (g : GT) (ι : S) (uc us : Nat) (ad : Nat → Nat) (H : Heap) (locs : List Loc) (ls : Array Slot), k23 x1 x2 x3 x4 g ι uc us → CX p s m args c meth cL_law 7 (some .boolean) RX0 D dA ad A → PW D dA A s.heap ad (HS g ι) H locs → HA ad0 g0 ad g → LH ad ls 7 [(0, pX 140), (1, pX x1), (2, pX x2), (3, pX x3), (4, iX x4)] → W p l e ({ frames := 8192, cells := BC, slots := BS, locals := 100000 } : Room) s m args below meth c H locs (uc) (us) Zq (F0 m 23 ls [])) : ∀ (x1 : Nat) (x2 : Nat) (x3 : Nat) (x4 : Int32) (g : GT) (ι : S) (uc us : Nat) (ad : Nat → Nat) (H : Heap) (locs : List Loc) (ls : Array Slot), P_X0_law_1663 L xs BC BS Q k23 x1 x2 x3 x4 g ι uc us → CX p s m args c meth cL_law 7 (some .boolean) RX0 D dA ad A → PW D dA A s.heap ad (HS g ι) H locs → HA ad0 g0 ad g → LH ad ls 7 [(0, pX 140), (1, pX x1), (2, pX x2), (3, pX x3), (4, iX x4)] → W p l e ({ frames := 8192, cells := BC, slots := BS, locals := 100000 } : Room) s m args below meth c H locs (uc) (us) Zq (F0 m 1663 ls []) := by
  intro x1 x2 x3 x4 g ι uc us ad H locs ls hF X hP hag hl
  unfold P_X0_law_1663 at hF
  refine lv_goto (tgt := 1690) X.1 X.2.1 dL_law_1663 (by decide) ?_
  refine ph_iinc (v := x4 + 6) (k := 4) X hl dL_law_1690 rfl rfl (by decide) rfl (fun ls hl => ?_)
  refine lv_goto (tgt := 23) X.1 X.2.1 dL_law_1693 (by decide) ?_
  exact hk23 _ _ _ _ _ _ _ _ _ _ _ _ hF X hP hag (lh_sub hl [1, 2, 3, 4, 0] rfl)
set_option maxHeartbeats 2000000 in
theorem w_X0_law_1586 (hlt : l.stackTraces = false) {L : Nat} {xs : Nat → Int32} {Zq : State → Prop} (hsc : SC s A ad0 L xs) {BC BS : Nat} {Q : Int32 → GT → S → Prop} (hret : LRet p l e s m args below meth c D dA A L xs BC BS Q Zq) {k23 : Nat → Nat → Nat → Int32 → GT → S → Nat → Nat → Prop} (hk23 : ∀ (x1 : Nat) (x2 : Nat) (x3 : Nat) (x4 : Int32) (g : GT) (ι : S) (uc us : Nat) (ad : Nat → Nat) (H : Heap) (locs : List Loc) (ls : Array Slot), k23 x1 x2 x3 x4 g ι uc us → CX p s m args c meth cL_law 7 (some .boolean) RX0 D dA ad A → PW D dA A s.heap ad (HS g ι) H locs → HA ad0 g0 ad g → LH ad ls 7 [(0, pX 140), (1, pX x1), (2, pX x2), (3, pX x3), (4, iX x4)] → W p l e ({ frames := 8192, cells := BC, slots := BS, locals := 100000 } : Room) s m args below meth c H locs (uc) (us) Zq (F0 m 23 ls [])) : ∀ (x1 : Nat) (x2 : Nat) (x3 : Nat) (x4 : Int32) (g : GT) (ι : S) (uc us : Nat) (ad : Nat → Nat) (H : Heap) (locs : List Loc) (ls : Array Slot), P_X0_law_1586 L xs BC BS Q k23 x1 x2 x3 x4 g ι uc us → CX p s m args c meth cL_law 7 (some .boolean) RX0 D dA ad A → PW D dA A s.heap ad (HS g ι) H locs → HA ad0 g0 ad g → LH ad ls 7 [(0, pX 140), (1, pX x1), (2, pX x2), (3, pX x3), (4, iX x4)] → W p l e ({ frames := 8192, cells := BC, slots := BS, locals := 100000 } : Room) s m args below meth c H locs (uc) (us) Zq (F0 m 1586 ls []) := by
  intro x1 x2 x3 x4 g ι uc us ad H locs ls hF X hP hag hl
  unfold P_X0_law_1586 at hF
  refine ph_aload_n (n := 1) X hl dL_law_1586 rfl rfl ?_
  refine ph_aload_n (n := 0) X hl dL_law_1587 rfl rfl ?_
  refine ph_iload (n := 4) X hl dL_law_1588 rfl ?_
  refine lv_iconst (v := 1) X.1 X.2.1 dL_law_1590 (by decide) ?_
  refine lv_iadd X.1 X.2.1 dL_law_1591 ?_
  obtain ⟨hr541, hF⟩ := hF
  refine hl_sld X hP (sc_ad hsc (hag.2 140 (by omega))) hr541 (k := (x4 + 1).toNatClampNeg) rfl dL_law_1592 ?_
  refine ph_aload_n (n := 0) X hl dL_law_1593 rfl rfl ?_
  refine ph_iload (n := 4) X hl dL_law_1594 rfl ?_
  refine lv_iconst (v := 2) X.1 X.2.1 dL_law_1596 (by decide) ?_
  refine lv_iadd X.1 X.2.1 dL_law_1597 ?_
  obtain ⟨hr542, hF⟩ := hF
  refine hl_sld X hP (sc_ad hsc (hag.2 140 (by omega))) hr542 (k := (x4 + 2).toNatClampNeg) rfl dL_law_1598 ?_
  refine ph_aload_n (n := 0) X hl dL_law_1599 rfl rfl ?_
  refine ph_iload (n := 4) X hl dL_law_1600 rfl ?_
  refine lv_iconst (v := 3) X.1 X.2.1 dL_law_1602 (by decide) ?_
  refine lv_iadd X.1 X.2.1 dL_law_1603 ?_
  obtain ⟨hr543, hF⟩ := hF
  refine hl_sld X hP (sc_ad hsc (hag.2 140 (by omega))) hr543 (k := (x4 + 3).toNatClampNeg) rfl dL_law_1604 ?_
  refine ph_aload_n (n := 3) X hl dL_law_1605 rfl rfl ?_
  obtain ⟨hx544, hF⟩ := hF
  obtain ⟨hx545, hF⟩ := hF
  obtain ⟨hx546, hF⟩ := hF
  obtain ⟨hd547, hF⟩ := hF
  refine hl_callW [pX x1, iX (xs ((x4 + 1).toNatClampNeg)), iX (xs ((x4 + 2).toNatClampNeg)), iX (xs ((x4 + 3).toNatClampNeg)), pX x3] [] X hP (met_X0_year l D dA ad hlt _ _ _ hF) (vx_cwSW 5 X.2.2.2.2.1 (lw_SW q1740 q1741 q97 q1742) rfl rfl rfl (by decide +kernel) ⟨Nat.le_of_ble_eq_true rfl, Nat.le_of_ble_eq_true rfl⟩) rfl hag hl (ltlp (ltk (by decide)) (ltlp hx546 (ltlp hx545 (ltlp hx544 (ltli ltln))))) ltsn (k8 := 0) (cs0 (k := 0)) (by decide) hd547 dL_law_1606 rfl (fun r551 ad g548 ι549 H locs hF X hP hag he550 hl => ?_)
  show W p l e ({ frames := 8192, cells := BC, slots := BS, locals := 100000 } : Room) s m args below meth c H locs (uc + 2) (us + 12) Zq (F0 m 1609 ls [.int r551])
  refine ph_istore X hl dL_law_1609 (by decide) rfl (fun ls hl => ?_)
  refine ph_aload_n (n := 3) X hl dL_law_1611 rfl rfl ?_
  refine ph_aload_n (n := 1) X hl dL_law_1612 rfl rfl ?_
  refine ph_iload (n := 5) X hl dL_law_1613 rfl ?_
  refine lv_iconst (v := 1) X.1 X.2.1 dL_law_1615 (by decide) ?_
  refine lv_iadd X.1 X.2.1 dL_law_1616 ?_
  obtain ⟨hr552, hF⟩ := hF
  refine hl_sld X hP (sc_ad hsc (hag.2 140 (by omega))) hr552 (k := (x4 + 1).toNatClampNeg) rfl dL_law_1617 ?_
  refine ph_aload_n (n := 1) X hl dL_law_1618 rfl rfl ?_
  refine ph_iload (n := 5) X hl dL_law_1619 rfl ?_
  refine lv_iconst (v := 2) X.1 X.2.1 dL_law_1621 (by decide) ?_
  refine lv_iadd X.1 X.2.1 dL_law_1622 ?_
  obtain ⟨hr553, hF⟩ := hF
  refine hl_sld X hP (sc_ad hsc (hag.2 140 (by omega))) hr553 (k := (x4 + 2).toNatClampNeg) rfl dL_law_1623 ?_
  refine ph_aload_n (n := 1) X hl dL_law_1624 rfl rfl ?_
  refine ph_iload (n := 5) X hl dL_law_1625 rfl ?_
  refine lv_iconst (v := 3) X.1 X.2.1 dL_law_1627 (by decide) ?_
  refine lv_iadd X.1 X.2.1 dL_law_1628 ?_
  obtain ⟨hr554, hF⟩ := hF
  refine hl_sld X hP (sc_ad hsc (hag.2 140 (by omega))) hr554 (k := (x4 + 3).toNatClampNeg) rfl dL_law_1629 ?_
  obtain ⟨hT555, hF⟩ := hF
  refine hg_callTi [xs ((x4 + 1).toNatClampNeg), xs ((x4 + 2).toNatClampNeg), xs ((x4 + 3).toNatClampNeg)] X hP hT555 (met_X8_year l D dA (adT ad x2) _ _ hF) (cwV 3 X.2.2.2.2.1 (lw_V q2360 q2361 q2362 q126 q2363) rfl rfl rfl (by decide +kernel) ⟨Nat.le_of_ble_eq_true rfl, Nat.le_of_ble_eq_true rfl⟩) rfl hl (k8 := 0) (cs0 (k := 0)) (by decide) hd547 dL_law_1630 rfl (fun r556 σ557 H locs hF hP => ?_)
  show W p l e ({ frames := 8192, cells := BC, slots := BS, locals := 100000 } : Room) s m args below meth c H locs (uc + 2) (us + 12) Zq (F0 m 1633 ls [.int r556])
  refine ph_istore X hl dL_law_1633 (by decide) rfl (fun ls hl => ?_)
  refine ph_aload_n (n := 4) X hl dL_law_1635 rfl rfl ?_
  obtain ⟨hT558, hF⟩ := hF
  refine hg_callTi [] X hP hT558 (met_X8_thrown l D dA (adT ad x2) _ _ hF) (cwV 0 X.2.2.2.2.1 (lw_V q1990 q1991 q1992 q126 q1993) rfl rfl rfl (by decide +kernel) ⟨Nat.le_of_ble_eq_true rfl, Nat.le_of_ble_eq_true rfl⟩) rfl hl (k8 := 0) (cs0 (k := 0)) (by decide) hd547 dL_law_1636 rfl (fun r559 σ560 H locs hF hP => ?_)
  show W p l e ({ frames := 8192, cells := BC, slots := BS, locals := 100000 } : Room) s m args below meth c H locs (uc + 2) (us + 12) Zq (F0 m 1639 ls [.int r559])
  refine ph_iload (n := 1) X hl dL_law_1639 rfl ?_
  refine lv_icmp_eq (tgt := 1646) X.1 X.2.1 dL_law_1641 (by decide) (fun c565 => ?_) (fun c565 => ?_)
  · have hF := hF.1 c565
    refine ph_iload (n := 1) X hl dL_law_1646 rfl ?_
    refine lv_if_ne (tgt := 1663) X.1 X.2.1 dL_law_1648 (by decide) (fun c564 => ?_) (fun c564 => ?_)
    · have hF := hF.1 c564
      exact w_X0_law_1663 hlt hsc hret hk23 _ _ _ _ _ _ _ _ _ _ _ _ hF X hP hag (lh_sub hl [2, 3, 4, 5, 6] rfl)
    · have hF := hF.2 c564
      refine ph_aload_n (n := 5) X hl dL_law_1651 rfl rfl ?_
      refine lv_iconst (v := 0) X.1 X.2.1 dL_law_1652 (by decide) ?_
      obtain ⟨hm561, hF⟩ := hF
      obtain ⟨hr562, hF⟩ := hF
      refine hl_lald X hP hm561 hr562 (k := 0) (by decide) dL_law_1653 ?_
      refine ph_iload (n := 0) X hl dL_law_1654 rfl ?_
      refine lv_i2l X.1 X.2.1 dL_law_1656 rfl ?_
      refine W.lcmp X.1 X.2.1 dL_law_1657 ?_
      refine lv_if_eq (tgt := 1663) X.1 X.2.1 dL_law_1658 (by decide) (fun c563 => ?_) (fun c563 => ?_)
      · have hF := hF.1 c563
        exact w_X0_law_1663 hlt hsc hret hk23 _ _ _ _ _ _ _ _ _ _ _ _ hF X hP hag (lh_sub hl [2, 3, 4, 5, 6] rfl)
      · have hF := hF.2 c563
        refine lv_iconst (v := 0) X.1 X.2.1 dL_law_1661 (by decide) ?_
        exact hret _ _ _ _ _ _ _ _ _ _ dL_law_1662 hF hd547 X hP
  · have hF := hF.2 c565
    refine lv_iconst (v := 0) X.1 X.2.1 dL_law_1644 (by decide) ?_
    exact hret _ _ _ _ _ _ _ _ _ _ dL_law_1645 hF hd547 X hP
set_option maxHeartbeats 2000000 in
theorem w_X0_law_1666 (hlt : l.stackTraces = false) {L : Nat} {xs : Nat → Int32} {Zq : State → Prop} (hsc : SC s A ad0 L xs) {BC BS : Nat} {Q : Int32 → GT → S → Prop} (hret : LRet p l e s m args below meth c D dA A L xs BC BS Q Zq) {k23 : Nat → Nat → Nat → Int32 → GT → S → Nat → Nat → Prop} (hk23 : ∀ (x1 : Nat) (x2 : Nat) (x3 : Nat) (x4 : Int32) (g : GT) (ι : S) (uc us : Nat) (ad : Nat → Nat) (H : Heap) (locs : List Loc) (ls : Array Slot), k23 x1 x2 x3 x4 g ι uc us → CX p s m args c meth cL_law 7 (some .boolean) RX0 D dA ad A → PW D dA A s.heap ad (HS g ι) H locs → HA ad0 g0 ad g → LH ad ls 7 [(0, pX 140), (1, pX x1), (2, pX x2), (3, pX x3), (4, iX x4)] → W p l e ({ frames := 8192, cells := BC, slots := BS, locals := 100000 } : Room) s m args below meth c H locs (uc) (us) Zq (F0 m 23 ls [])) : ∀ (x1 : Nat) (x2 : Nat) (x3 : Nat) (x4 : Int32) (g : GT) (ι : S) (uc us : Nat) (ad : Nat → Nat) (H : Heap) (locs : List Loc) (ls : Array Slot), P_X0_law_1666 L xs BC BS Q k23 x1 x2 x3 x4 g ι uc us → CX p s m args c meth cL_law 7 (some .boolean) RX0 D dA ad A → PW D dA A s.heap ad (HS g ι) H locs → HA ad0 g0 ad g → LH ad ls 7 [(0, pX 140), (1, pX x1), (2, pX x2), (3, pX x3), (4, iX x4)] → W p l e ({ frames := 8192, cells := BC, slots := BS, locals := 100000 } : Room) s m args below meth c H locs (uc) (us) Zq (F0 m 1666 ls []) := by
  intro x1 x2 x3 x4 g ι uc us ad H locs ls hF X hP hag hl
  unfold P_X0_law_1666 at hF
  refine ph_aload_n (n := 1) X hl dL_law_1666 rfl rfl ?_
  obtain ⟨hd566, hF⟩ := hF
  obtain ⟨hm570, hF⟩ := hF
  refine cg_callVv 1 [] X hP hm570 (met_X1_image l D dA ad g _ _ hF) (cwV 0 X.2.2.2.2.1 (lw_V q1139 q1140 q1141 q98 q1142) rfl rfl rfl (by decide +kernel) ⟨Nat.le_of_ble_eq_true rfl, Nat.le_of_ble_eq_true rfl⟩) rfl hl (k8 := 0) (cs0 (k := 0)) (by decide) hd566 dL_law_1667 rfl (fun ι568 H locs hF hP => ?_)
  refine ph_aload_n (n := 2) X hl dL_law_1670 rfl rfl ?_
  obtain ⟨hT571, hF⟩ := hF
  refine hg_callTv [] X hP hT571 (met_X8_image l D dA (adT ad x2) _ _ hF) (cwV 0 X.2.2.2.2.1 (lw_V q2371 q2372 q2373 q126 q2374) rfl rfl rfl (by decide +kernel) ⟨Nat.le_of_ble_eq_true rfl, Nat.le_of_ble_eq_true rfl⟩) rfl hl (k8 := 0) (cs0 (k := 0)) (by decide) hd566 dL_law_1671 rfl (fun σ573 H locs hF hP => ?_)
  show W p l e ({ frames := 8192, cells := BC, slots := BS, locals := 100000 } : Room) s m args below meth c H locs (uc) (us) Zq (F0 m 1674 ls [])
  refine lv_goto (tgt := 1690) X.1 X.2.1 dL_law_1674 (by decide) ?_
  refine ph_iinc (v := x4 + 6) (k := 4) X hl dL_law_1690 rfl rfl (by decide) rfl (fun ls hl => ?_)
  refine lv_goto (tgt := 23) X.1 X.2.1 dL_law_1693 (by decide) ?_
  exact hk23 _ _ _ _ _ _ _ _ _ _ _ _ hF X hP hag (lh_sub hl [1, 2, 3, 4, 0] rfl)
set_option maxHeartbeats 2000000 in
theorem w_X0_law_1677 (hlt : l.stackTraces = false) {L : Nat} {xs : Nat → Int32} {Zq : State → Prop} (hsc : SC s A ad0 L xs) {BC BS : Nat} {Q : Int32 → GT → S → Prop} (hret : LRet p l e s m args below meth c D dA A L xs BC BS Q Zq) {k23 : Nat → Nat → Nat → Int32 → GT → S → Nat → Nat → Prop} (hk23 : ∀ (x1 : Nat) (x2 : Nat) (x3 : Nat) (x4 : Int32) (g : GT) (ι : S) (uc us : Nat) (ad : Nat → Nat) (H : Heap) (locs : List Loc) (ls : Array Slot), k23 x1 x2 x3 x4 g ι uc us → CX p s m args c meth cL_law 7 (some .boolean) RX0 D dA ad A → PW D dA A s.heap ad (HS g ι) H locs → HA ad0 g0 ad g → LH ad ls 7 [(0, pX 140), (1, pX x1), (2, pX x2), (3, pX x3), (4, iX x4)] → W p l e ({ frames := 8192, cells := BC, slots := BS, locals := 100000 } : Room) s m args below meth c H locs (uc) (us) Zq (F0 m 23 ls [])) : ∀ (x1 : Nat) (x2 : Nat) (x3 : Nat) (x4 : Int32) (g : GT) (ι : S) (uc us : Nat) (ad : Nat → Nat) (H : Heap) (locs : List Loc) (ls : Array Slot), P_X0_law_1677 L xs BC BS Q k23 x1 x2 x3 x4 g ι uc us → CX p s m args c meth cL_law 7 (some .boolean) RX0 D dA ad A → PW D dA A s.heap ad (HS g ι) H locs → HA ad0 g0 ad g → LH ad ls 7 [(0, pX 140), (1, pX x1), (2, pX x2), (3, pX x3), (4, iX x4)] → W p l e ({ frames := 8192, cells := BC, slots := BS, locals := 100000 } : Room) s m args below meth c H locs (uc) (us) Zq (F0 m 1677 ls []) := by
  intro x1 x2 x3 x4 g ι uc us ad H locs ls hF X hP hag hl
  unfold P_X0_law_1677 at hF
  refine ph_aload_n (n := 1) X hl dL_law_1677 rfl rfl ?_
  obtain ⟨hd574, hF⟩ := hF
  obtain ⟨hm578, hF⟩ := hF
  refine cg_callVi 1 [] X hP hm578 (met_X1_restore l D dA ad g _ _ hF) (cwV 0 X.2.2.2.2.1 (lw_V q1148 q1149 q1150 q98 q1151) rfl rfl rfl (by decide +kernel) ⟨Nat.le_of_ble_eq_true rfl, Nat.le_of_ble_eq_true rfl⟩) rfl hl (k8 := 0) (cs0 (k := 0)) (by decide) hd574 dL_law_1678 rfl (fun r575 ι576 H locs hF hP => ?_)
  refine ph_aload_n (n := 2) X hl dL_law_1681 rfl rfl ?_
  obtain ⟨hT579, hF⟩ := hF
  refine hg_callTi [] X hP hT579 (met_X8_restore l D dA (adT ad x2) _ _ hF) (cwV 0 X.2.2.2.2.1 (lw_V q2378 q2379 q2380 q126 q2381) rfl rfl rfl (by decide +kernel) ⟨Nat.le_of_ble_eq_true rfl, Nat.le_of_ble_eq_true rfl⟩) rfl hl (k8 := 1) (csi (cs0 (k := 0))) (by decide) hd574 dL_law_1682 rfl (fun r580 σ581 H locs hF hP => ?_)
  show W p l e ({ frames := 8192, cells := BC, slots := BS, locals := 100000 } : Room) s m args below meth c H locs (uc) (us) Zq (F0 m 1685 ls [.int r580, .int r575])
  refine lv_icmp_eq (tgt := 1690) X.1 X.2.1 dL_law_1685 (by decide) (fun c582 => ?_) (fun c582 => ?_)
  · have hF := hF.1 c582
    refine ph_iinc (v := x4 + 6) (k := 4) X hl dL_law_1690 rfl rfl (by decide) rfl (fun ls hl => ?_)
    refine lv_goto (tgt := 23) X.1 X.2.1 dL_law_1693 (by decide) ?_
    exact hk23 _ _ _ _ _ _ _ _ _ _ _ _ hF X hP hag (lh_sub hl [1, 2, 3, 4, 0] rfl)
  · have hF := hF.2 c582
    refine lv_iconst (v := 0) X.1 X.2.1 dL_law_1688 (by decide) ?_
    exact hret _ _ _ _ _ _ _ _ _ _ dL_law_1689 hF hd574 X hP
set_option maxHeartbeats 2000000 in
theorem w_X0_law_23 (hlt : l.stackTraces = false) {L : Nat} {xs : Nat → Int32} {Zq : State → Prop} (hsc : SC s A ad0 L xs) {BC BS : Nat} {Q : Int32 → GT → S → Prop} (hret : LRet p l e s m args below meth c D dA A L xs BC BS Q Zq) : ∀ (n : Nat) (x1 : Nat) (x2 : Nat) (x3 : Nat) (x4 : Int32) (g : GT) (ι : S) (uc us : Nat) (ad : Nat → Nat) (H : Heap) (locs : List Loc) (ls : Array Slot), P_X0_law_23 L xs BC BS Q n x1 x2 x3 x4 g ι uc us → CX p s m args c meth cL_law 7 (some .boolean) RX0 D dA ad A → PW D dA A s.heap ad (HS g ι) H locs → HA ad0 g0 ad g → LH ad ls 7 [(0, pX 140), (1, pX x1), (2, pX x2), (3, pX x3), (4, iX x4)] → W p l e ({ frames := 8192, cells := BC, slots := BS, locals := 100000 } : Room) s m args below meth c H locs (uc) (us) Zq (F0 m 23 ls []) := by
  intro n
  induction n with
  | zero =>
    intro x1 x2 x3 x4 g ι uc us ad H locs ls hF
    exact hF.elim
  | succ n ih =>
    intro x1 x2 x3 x4 g ι uc us ad H locs ls hF X hP hag hl
    rw [P_X0_law_23] at hF
    refine ph_iload (n := 4) X hl dL_law_23 rfl ?_
    refine ph_aload_n (n := 0) X hl dL_law_25 rfl rfl ?_
    refine hl_slen X hP (sc_ad hsc (hag.2 140 (by omega))) dL_law_26 ?_
    refine lv_bipush (v := 6) X.1 X.2.1 dL_law_27 (by decide) ?_
    refine lv_isub X.1 X.2.1 dL_law_29 ?_
    refine lv_icmp_gt (tgt := 1696) X.1 X.2.1 dL_law_30 (by decide) (fun c586 => ?_) (fun c586 => ?_)
    · have hF := hF.1 c586
      refine lv_iconst (v := 1) X.1 X.2.1 dL_law_1696 (by decide) ?_
      obtain ⟨hd583, hF⟩ := hF
      exact hret _ _ _ _ _ _ _ _ _ _ dL_law_1697 hF hd583 X hP
    · have hF := hF.2 c586
      refine ph_aload_n (n := 0) X hl dL_law_33 rfl rfl ?_
      refine ph_iload (n := 4) X hl dL_law_34 rfl ?_
      obtain ⟨hr584, hF⟩ := hF
      refine hl_sld X hP (sc_ad hsc (hag.2 140 (by omega))) hr584 (k := x4.toNatClampNeg) rfl dL_law_36 ?_
      refine lv_bipush (v := 31) X.1 X.2.1 dL_law_37 (by decide) ?_
      refine lv_iand X.1 X.2.1 dL_law_39 ?_
      rcases ts_cases ((xs x4.toNatClampNeg) &&& 31) 0 31 with ⟨j9, hs585⟩ | hs585
      · obtain ⟨hj9, hs585⟩ := hs585
        rcases ts_lt31 hj9 with rfl | rfl | rfl | rfl | rfl | rfl | rfl | rfl | rfl | rfl | rfl | rfl | rfl | rfl | rfl | rfl | rfl | rfl | rfl | rfl | rfl | rfl | rfl | rfl | rfl | rfl | rfl | rfl | rfl | rfl | rfl
        · have hx9 : (xs x4.toNatClampNeg) &&& 31 = 0 := hs585.trans (by decide)
          have hF := hF.1 hx9
          refine lv_tableIn (tgt := 180) (off := 140) X.1 X.2.1 dL_law_40 (by rw [hx9]; decide) (by rw [hx9]; decide) (by rw [hx9]; decide) (by decide) ?_
          exact w_X0_law_180 hlt hsc hret ih _ _ _ _ _ _ _ _ _ _ _ _ hF X hP hag hl
        · have hx9 : (xs x4.toNatClampNeg) &&& 31 = 1 := hs585.trans (by decide)
          have hF := hF.2.1 hx9
          refine lv_tableIn (tgt := 253) (off := 213) X.1 X.2.1 dL_law_40 (by rw [hx9]; decide) (by rw [hx9]; decide) (by rw [hx9]; decide) (by decide) ?_
          exact w_X0_law_253 hlt hsc hret ih _ _ _ _ _ _ _ _ _ _ _ _ hF X hP hag hl
        · have hx9 : (xs x4.toNatClampNeg) &&& 31 = 2 := hs585.trans (by decide)
          have hF := hF.2.2.1 hx9
          refine lv_tableIn (tgt := 309) (off := 269) X.1 X.2.1 dL_law_40 (by rw [hx9]; decide) (by rw [hx9]; decide) (by rw [hx9]; decide) (by decide) ?_
          exact w_X0_law_309 hlt hsc hret ih _ _ _ _ _ _ _ _ _ _ _ _ hF X hP hag hl
        · have hx9 : (xs x4.toNatClampNeg) &&& 31 = 3 := hs585.trans (by decide)
          have hF := hF.2.2.2.1 hx9
          refine lv_tableIn (tgt := 322) (off := 282) X.1 X.2.1 dL_law_40 (by rw [hx9]; decide) (by rw [hx9]; decide) (by rw [hx9]; decide) (by decide) ?_
          exact w_X0_law_322 hlt hsc hret ih _ _ _ _ _ _ _ _ _ _ _ _ hF X hP hag hl
        · have hx9 : (xs x4.toNatClampNeg) &&& 31 = 4 := hs585.trans (by decide)
          have hF := hF.2.2.2.2.1 hx9
          refine lv_tableIn (tgt := 378) (off := 338) X.1 X.2.1 dL_law_40 (by rw [hx9]; decide) (by rw [hx9]; decide) (by rw [hx9]; decide) (by decide) ?_
          exact w_X0_law_378 hlt hsc hret ih _ _ _ _ _ _ _ _ _ _ _ _ hF X hP hag hl
        · have hx9 : (xs x4.toNatClampNeg) &&& 31 = 5 := hs585.trans (by decide)
          have hF := hF.2.2.2.2.2.1 hx9
          refine lv_tableIn (tgt := 446) (off := 406) X.1 X.2.1 dL_law_40 (by rw [hx9]; decide) (by rw [hx9]; decide) (by rw [hx9]; decide) (by decide) ?_
          exact w_X0_law_446 hlt hsc hret ih _ _ _ _ _ _ _ _ _ _ _ _ hF X hP hag hl
        · have hx9 : (xs x4.toNatClampNeg) &&& 31 = 6 := hs585.trans (by decide)
          have hF := hF.2.2.2.2.2.2.1 hx9
          refine lv_tableIn (tgt := 483) (off := 443) X.1 X.2.1 dL_law_40 (by rw [hx9]; decide) (by rw [hx9]; decide) (by rw [hx9]; decide) (by decide) ?_
          exact w_X0_law_483 hlt hsc hret ih _ _ _ _ _ _ _ _ _ _ _ _ hF X hP hag hl
        · have hx9 : (xs x4.toNatClampNeg) &&& 31 = 7 := hs585.trans (by decide)
          have hF := hF.2.2.2.2.2.2.2.1 hx9
          refine lv_tableIn (tgt := 508) (off := 468) X.1 X.2.1 dL_law_40 (by rw [hx9]; decide) (by rw [hx9]; decide) (by rw [hx9]; decide) (by decide) ?_
          exact w_X0_law_508 hlt hsc hret ih _ _ _ _ _ _ _ _ _ _ _ _ hF X hP hag hl
        · have hx9 : (xs x4.toNatClampNeg) &&& 31 = 8 := hs585.trans (by decide)
          have hF := hF.2.2.2.2.2.2.2.2.1 hx9
          refine lv_tableIn (tgt := 576) (off := 536) X.1 X.2.1 dL_law_40 (by rw [hx9]; decide) (by rw [hx9]; decide) (by rw [hx9]; decide) (by decide) ?_
          exact w_X0_law_576 hlt hsc hret ih _ _ _ _ _ _ _ _ _ _ _ _ hF X hP hag hl
        · have hx9 : (xs x4.toNatClampNeg) &&& 31 = 9 := hs585.trans (by decide)
          have hF := hF.2.2.2.2.2.2.2.2.2.1 hx9
          refine lv_tableIn (tgt := 629) (off := 589) X.1 X.2.1 dL_law_40 (by rw [hx9]; decide) (by rw [hx9]; decide) (by rw [hx9]; decide) (by decide) ?_
          exact w_X0_law_629 hlt hsc hret ih _ _ _ _ _ _ _ _ _ _ _ _ hF X hP hag hl
        · have hx9 : (xs x4.toNatClampNeg) &&& 31 = 10 := hs585.trans (by decide)
          have hF := hF.2.2.2.2.2.2.2.2.2.2.1 hx9
          refine lv_tableIn (tgt := 697) (off := 657) X.1 X.2.1 dL_law_40 (by rw [hx9]; decide) (by rw [hx9]; decide) (by rw [hx9]; decide) (by decide) ?_
          exact w_X0_law_697 hlt hsc hret ih _ _ _ _ _ _ _ _ _ _ _ _ hF X hP hag hl
        · have hx9 : (xs x4.toNatClampNeg) &&& 31 = 11 := hs585.trans (by decide)
          have hF := hF.2.2.2.2.2.2.2.2.2.2.2.1 hx9
          refine lv_tableIn (tgt := 710) (off := 670) X.1 X.2.1 dL_law_40 (by rw [hx9]; decide) (by rw [hx9]; decide) (by rw [hx9]; decide) (by decide) ?_
          exact w_X0_law_710 hlt hsc hret ih _ _ _ _ _ _ _ _ _ _ _ _ hF X hP hag hl
        · have hx9 : (xs x4.toNatClampNeg) &&& 31 = 12 := hs585.trans (by decide)
          have hF := hF.2.2.2.2.2.2.2.2.2.2.2.2.1 hx9
          refine lv_tableIn (tgt := 766) (off := 726) X.1 X.2.1 dL_law_40 (by rw [hx9]; decide) (by rw [hx9]; decide) (by rw [hx9]; decide) (by decide) ?_
          exact w_X0_law_766 hlt hsc hret ih _ _ _ _ _ _ _ _ _ _ _ _ hF X hP hag hl
        · have hx9 : (xs x4.toNatClampNeg) &&& 31 = 13 := hs585.trans (by decide)
          have hF := hF.2.2.2.2.2.2.2.2.2.2.2.2.2.1 hx9
          refine lv_tableIn (tgt := 834) (off := 794) X.1 X.2.1 dL_law_40 (by rw [hx9]; decide) (by rw [hx9]; decide) (by rw [hx9]; decide) (by decide) ?_
          exact w_X0_law_834 hlt hsc hret ih _ _ _ _ _ _ _ _ _ _ _ _ hF X hP hag hl
        · have hx9 : (xs x4.toNatClampNeg) &&& 31 = 14 := hs585.trans (by decide)
          have hF := hF.2.2.2.2.2.2.2.2.2.2.2.2.2.2.1 hx9
          refine lv_tableIn (tgt := 914) (off := 874) X.1 X.2.1 dL_law_40 (by rw [hx9]; decide) (by rw [hx9]; decide) (by rw [hx9]; decide) (by decide) ?_
          exact w_X0_law_914 hlt hsc hret ih _ _ _ _ _ _ _ _ _ _ _ _ hF X hP hag hl
        · have hx9 : (xs x4.toNatClampNeg) &&& 31 = 15 := hs585.trans (by decide)
          have hF := hF.2.2.2.2.2.2.2.2.2.2.2.2.2.2.2.1 hx9
          refine lv_tableIn (tgt := 982) (off := 942) X.1 X.2.1 dL_law_40 (by rw [hx9]; decide) (by rw [hx9]; decide) (by rw [hx9]; decide) (by decide) ?_
          exact w_X0_law_982 hlt hsc hret ih _ _ _ _ _ _ _ _ _ _ _ _ hF X hP hag hl
        · have hx9 : (xs x4.toNatClampNeg) &&& 31 = 16 := hs585.trans (by decide)
          have hF := hF.2.2.2.2.2.2.2.2.2.2.2.2.2.2.2.2.1 hx9
          refine lv_tableIn (tgt := 995) (off := 955) X.1 X.2.1 dL_law_40 (by rw [hx9]; decide) (by rw [hx9]; decide) (by rw [hx9]; decide) (by decide) ?_
          exact w_X0_law_995 hlt hsc hret ih _ _ _ _ _ _ _ _ _ _ _ _ hF X hP hag hl
        · have hx9 : (xs x4.toNatClampNeg) &&& 31 = 17 := hs585.trans (by decide)
          have hF := hF.2.2.2.2.2.2.2.2.2.2.2.2.2.2.2.2.2.1 hx9
          refine lv_tableIn (tgt := 1008) (off := 968) X.1 X.2.1 dL_law_40 (by rw [hx9]; decide) (by rw [hx9]; decide) (by rw [hx9]; decide) (by decide) ?_
          exact w_X0_law_1008 hlt hsc hret ih _ _ _ _ _ _ _ _ _ _ _ _ hF X hP hag hl
        · have hx9 : (xs x4.toNatClampNeg) &&& 31 = 18 := hs585.trans (by decide)
          have hF := hF.2.2.2.2.2.2.2.2.2.2.2.2.2.2.2.2.2.2.1 hx9
          refine lv_tableIn (tgt := 1064) (off := 1024) X.1 X.2.1 dL_law_40 (by rw [hx9]; decide) (by rw [hx9]; decide) (by rw [hx9]; decide) (by decide) ?_
          exact w_X0_law_1064 hlt hsc hret ih _ _ _ _ _ _ _ _ _ _ _ _ hF X hP hag hl
        · have hx9 : (xs x4.toNatClampNeg) &&& 31 = 19 := hs585.trans (by decide)
          have hF := hF.2.2.2.2.2.2.2.2.2.2.2.2.2.2.2.2.2.2.2.1 hx9
          refine lv_tableIn (tgt := 1132) (off := 1092) X.1 X.2.1 dL_law_40 (by rw [hx9]; decide) (by rw [hx9]; decide) (by rw [hx9]; decide) (by decide) ?_
          exact w_X0_law_1132 hlt hsc hret ih _ _ _ _ _ _ _ _ _ _ _ _ hF X hP hag hl
        · have hx9 : (xs x4.toNatClampNeg) &&& 31 = 20 := hs585.trans (by decide)
          have hF := hF.2.2.2.2.2.2.2.2.2.2.2.2.2.2.2.2.2.2.2.2.1 hx9
          refine lv_tableIn (tgt := 1188) (off := 1148) X.1 X.2.1 dL_law_40 (by rw [hx9]; decide) (by rw [hx9]; decide) (by rw [hx9]; decide) (by decide) ?_
          exact w_X0_law_1188 hlt hsc hret ih _ _ _ _ _ _ _ _ _ _ _ _ hF X hP hag hl
        · have hx9 : (xs x4.toNatClampNeg) &&& 31 = 21 := hs585.trans (by decide)
          have hF := hF.2.2.2.2.2.2.2.2.2.2.2.2.2.2.2.2.2.2.2.2.2.1 hx9
          refine lv_tableIn (tgt := 1244) (off := 1204) X.1 X.2.1 dL_law_40 (by rw [hx9]; decide) (by rw [hx9]; decide) (by rw [hx9]; decide) (by decide) ?_
          exact w_X0_law_1244 hlt hsc hret ih _ _ _ _ _ _ _ _ _ _ _ _ hF X hP hag hl
        · have hx9 : (xs x4.toNatClampNeg) &&& 31 = 22 := hs585.trans (by decide)
          have hF := hF.2.2.2.2.2.2.2.2.2.2.2.2.2.2.2.2.2.2.2.2.2.2.1 hx9
          refine lv_tableIn (tgt := 1300) (off := 1260) X.1 X.2.1 dL_law_40 (by rw [hx9]; decide) (by rw [hx9]; decide) (by rw [hx9]; decide) (by decide) ?_
          exact w_X0_law_1300 hlt hsc hret ih _ _ _ _ _ _ _ _ _ _ _ _ hF X hP hag hl
        · have hx9 : (xs x4.toNatClampNeg) &&& 31 = 23 := hs585.trans (by decide)
          have hF := hF.2.2.2.2.2.2.2.2.2.2.2.2.2.2.2.2.2.2.2.2.2.2.2.1 hx9
          refine lv_tableIn (tgt := 1313) (off := 1273) X.1 X.2.1 dL_law_40 (by rw [hx9]; decide) (by rw [hx9]; decide) (by rw [hx9]; decide) (by decide) ?_
          exact w_X0_law_1313 hlt hsc hret ih _ _ _ _ _ _ _ _ _ _ _ _ hF X hP hag hl
        · have hx9 : (xs x4.toNatClampNeg) &&& 31 = 24 := hs585.trans (by decide)
          have hF := hF.2.2.2.2.2.2.2.2.2.2.2.2.2.2.2.2.2.2.2.2.2.2.2.2.1 hx9
          refine lv_tableIn (tgt := 1381) (off := 1341) X.1 X.2.1 dL_law_40 (by rw [hx9]; decide) (by rw [hx9]; decide) (by rw [hx9]; decide) (by decide) ?_
          exact w_X0_law_1381 hlt hsc hret ih _ _ _ _ _ _ _ _ _ _ _ _ hF X hP hag hl
        · have hx9 : (xs x4.toNatClampNeg) &&& 31 = 25 := hs585.trans (by decide)
          have hF := hF.2.2.2.2.2.2.2.2.2.2.2.2.2.2.2.2.2.2.2.2.2.2.2.2.2.1 hx9
          refine lv_tableIn (tgt := 1461) (off := 1421) X.1 X.2.1 dL_law_40 (by rw [hx9]; decide) (by rw [hx9]; decide) (by rw [hx9]; decide) (by decide) ?_
          exact w_X0_law_1461 hlt hsc hret ih _ _ _ _ _ _ _ _ _ _ _ _ hF X hP hag hl
        · have hx9 : (xs x4.toNatClampNeg) &&& 31 = 26 := hs585.trans (by decide)
          have hF := hF.2.2.2.2.2.2.2.2.2.2.2.2.2.2.2.2.2.2.2.2.2.2.2.2.2.2.1 hx9
          refine lv_tableIn (tgt := 1474) (off := 1434) X.1 X.2.1 dL_law_40 (by rw [hx9]; decide) (by rw [hx9]; decide) (by rw [hx9]; decide) (by decide) ?_
          exact w_X0_law_1474 hlt hsc hret ih _ _ _ _ _ _ _ _ _ _ _ _ hF X hP hag hl
        · have hx9 : (xs x4.toNatClampNeg) &&& 31 = 27 := hs585.trans (by decide)
          have hF := hF.2.2.2.2.2.2.2.2.2.2.2.2.2.2.2.2.2.2.2.2.2.2.2.2.2.2.2.1 hx9
          refine lv_tableIn (tgt := 1530) (off := 1490) X.1 X.2.1 dL_law_40 (by rw [hx9]; decide) (by rw [hx9]; decide) (by rw [hx9]; decide) (by decide) ?_
          exact w_X0_law_1530 hlt hsc hret ih _ _ _ _ _ _ _ _ _ _ _ _ hF X hP hag hl
        · have hx9 : (xs x4.toNatClampNeg) &&& 31 = 28 := hs585.trans (by decide)
          have hF := hF.2.2.2.2.2.2.2.2.2.2.2.2.2.2.2.2.2.2.2.2.2.2.2.2.2.2.2.2.1 hx9
          refine lv_tableIn (tgt := 1586) (off := 1546) X.1 X.2.1 dL_law_40 (by rw [hx9]; decide) (by rw [hx9]; decide) (by rw [hx9]; decide) (by decide) ?_
          exact w_X0_law_1586 hlt hsc hret ih _ _ _ _ _ _ _ _ _ _ _ _ hF X hP hag hl
        · have hx9 : (xs x4.toNatClampNeg) &&& 31 = 29 := hs585.trans (by decide)
          have hF := hF.2.2.2.2.2.2.2.2.2.2.2.2.2.2.2.2.2.2.2.2.2.2.2.2.2.2.2.2.2.1 hx9
          refine lv_tableIn (tgt := 1666) (off := 1626) X.1 X.2.1 dL_law_40 (by rw [hx9]; decide) (by rw [hx9]; decide) (by rw [hx9]; decide) (by decide) ?_
          exact w_X0_law_1666 hlt hsc hret ih _ _ _ _ _ _ _ _ _ _ _ _ hF X hP hag hl
        · have hx9 : (xs x4.toNatClampNeg) &&& 31 = 30 := hs585.trans (by decide)
          have hF := hF.2.2.2.2.2.2.2.2.2.2.2.2.2.2.2.2.2.2.2.2.2.2.2.2.2.2.2.2.2.2.1 hx9
          refine lv_tableIn (tgt := 1677) (off := 1637) X.1 X.2.1 dL_law_40 (by rw [hx9]; decide) (by rw [hx9]; decide) (by rw [hx9]; decide) (by decide) ?_
          exact w_X0_law_1677 hlt hsc hret ih _ _ _ _ _ _ _ _ _ _ _ _ hF X hP hag hl
      · have hs585 : ((xs x4.toNatClampNeg) &&& 31).toInt < 0 ∨ 30 < ((xs x4.toNatClampNeg) &&& 31).toInt := by omega
        have hF := hF.2.2.2.2.2.2.2.2.2.2.2.2.2.2.2.2.2.2.2.2.2.2.2.2.2.2.2.2.2.2.2 hs585
        refine lv_tableOut (tgt := 1690) X.1 X.2.1 dL_law_40 hs585 (by decide) ?_
        refine ph_iinc (v := x4 + 6) (k := 4) X hl dL_law_1690 rfl rfl (by decide) rfl (fun ls hl => ?_)
        refine lv_goto (tgt := 23) X.1 X.2.1 dL_law_1693 (by decide) ?_
        exact ih _ _ _ _ _ _ _ _ _ _ _ _ hF X hP hag (lh_sub hl [1, 2, 3, 4, 0] rfl)
set_option maxHeartbeats 2000000 in
theorem we_X0_law (hlt : l.stackTraces = false) {L : Nat} {xs : Nat → Int32} {Zq : State → Prop} (hsc : SC s A ad0 L xs) {BC BS : Nat} {Q : Int32 → GT → S → Prop} (hret : LRet p l e s m args below meth c D dA A L xs BC BS Q Zq) : ∀  (g : GT) (ι : S) (ad : Nat → Nat) (H : Heap) (locs : List Loc) (ls : Array Slot), P_X0_law L xs BC BS  g ι Q → CX p s m args c meth cL_law 7 (some .boolean) RX0 D dA ad A → PW D dA A s.heap ad (HS g ι) H locs → HA ad0 g0 ad g → LH ad ls 7 [(0, pX 140)] → W p l e ({ frames := 8192, cells := BC, slots := BS, locals := 100000 } : Room) s m args below meth c H locs (0) (0) Zq (F0 m 0 ls []) := by
  intro  g ι ad H locs ls hF X hP hag hl
  unfold P_X0_law at hF
  obtain ⟨hd587, hF⟩ := hF
  refine hg_new 1 [] X hP hag hl (ltlp (ltk (by decide)) ltln) ltsn in_X1 tyX1 tyX1_ok (by decide +kernel) q140 q141 q98 hd587 dL_law_0 rfl hF (fun H ad g588 ι589 X hP hag he590 hk591 hl hF => ?_)
  show W p l e ({ frames := 8192, cells := BC, slots := BS, locals := 100000 } : Room) s m args below meth c H locs (1) (21) Zq (F0 m 3 ls [rv ad (200 + gN g)])
  refine ph_dup_r X dL_law_3 ?_
  obtain ⟨b592, d593, hF⟩ := hF
  obtain ⟨hd594, hF⟩ := hF
  refine hg_callI [] [pX (200 + gN g)] X hP (cg_nz hP hk591.1 (by decide)) (met_X1_init l D dA ad _ _ _ _ _ hF) (cwI 0 X.2.2.2.2.1 (lw_meth q144) rfl rfl rfl (X.2.2.2.2.1 _ q98) (X.2.2.2.2.1 _ q142) (X.2.2.2.2.1 _ q143) rfl (by decide +kernel) ⟨Nat.le_of_ble_eq_true rfl, Nat.le_of_ble_eq_true rfl⟩) rfl hag hl (ltlp (ltk (by decide)) ltln) (ltsp (ltw he590) ltsn) (k8 := 1) (csr (cs0 (k := 0))) (by decide) hd594 dL_law_4 rfl (fun ad g595 ι596 H locs hF X hP hag he597 hl => ?_)
  show W p l e ({ frames := 8192, cells := BC, slots := BS, locals := 100000 } : Room) s m args below meth c H locs (1 + b592) (21 + d593) Zq (F0 m 7 ls [rv ad (200 + gN g)])
  refine ph_astore_n X hl dL_law_7 rfl (by decide) rfl (fun ls hl => ?_)
  obtain ⟨hd600, hF⟩ := hF
  refine hg_new 0 [] X hP hag hl (ltlp (ltm (ltw he590) he597) (ltlp (ltk (by decide)) ltln)) ltsn in_X8 tyX8 tyX8_ok (by decide +kernel) q1752 q1753 q126 hd600 dL_law_8 rfl hF (fun H ad g601 ι602 X hP hag he603 hk604 hl hF => ?_)
  show W p l e ({ frames := 8192, cells := BC, slots := BS, locals := 100000 } : Room) s m args below meth c H locs (1 + b592 + 1) (21 + d593 + 73) Zq (F0 m 11 ls [rv ad (200 + gN g595)])
  refine ph_dup_r X dL_law_11 ?_
  obtain ⟨b605, d606, hF⟩ := hF
  obtain ⟨hd607, hF⟩ := hF
  refine hg_callI [] [pX (200 + gN g595)] X hP (cg_nz hP hk604.1 (by decide)) (met_X8_init l D dA ad _ _ _ _ _ hF) (cwI 0 X.2.2.2.2.1 (lw_meth q1756) rfl rfl rfl (X.2.2.2.2.1 _ q126) (X.2.2.2.2.1 _ q1754) (X.2.2.2.2.1 _ q1755) rfl (by decide +kernel) ⟨Nat.le_of_ble_eq_true rfl, Nat.le_of_ble_eq_true rfl⟩) rfl hag hl (ltlp (ltm (ltm (ltw he590) he597) (Nat.le_of_succ_le he603)) (ltlp (ltk (by decide)) ltln)) (ltsp (ltw he603) ltsn) (k8 := 1) (csr (cs0 (k := 0))) (by decide) hd607 dL_law_12 rfl (fun ad g608 ι609 H locs hF X hP hag he610 hl => ?_)
  show W p l e ({ frames := 8192, cells := BC, slots := BS, locals := 100000 } : Room) s m args below meth c H locs (1 + b592 + 1 + b605) (21 + d593 + 73 + d606) Zq (F0 m 15 ls [rv ad (200 + gN g595)])
  refine ph_astore_n X hl dL_law_15 rfl (by decide) rfl (fun ls hl => ?_)
  refine lv_iconst (v := 1) X.1 X.2.1 dL_law_16 (by decide) ?_
  obtain ⟨hd613, hF⟩ := hF
  refine hg_newaL [] X hP hag hl (ltlp (ltm (ltw he603) he610) (ltlp (ltm (ltm (ltm (ltw he590) he597) (Nat.le_of_succ_le he603)) he610) (ltlp (ltk (by decide)) ltln))) ltsn q2382 (by decide) (by decide) (Nat.le_of_ble_eq_true rfl) hd613 dL_law_17 rfl hF (fun H ad g614 ι615 X hP hag he616 hk617 hl hF => ?_)
  show W p l e ({ frames := 8192, cells := BC, slots := BS, locals := 100000 } : Room) s m args below meth c H locs (1 + b592 + 1 + b605 + 1) (21 + d593 + 73 + d606 + 1) Zq (F0 m 19 ls [rv ad (200 + gN g608)])
  refine ph_astore_n X hl dL_law_19 rfl (by decide) rfl (fun ls hl => ?_)
  refine lv_iconst (v := 0) X.1 X.2.1 dL_law_20 (by decide) ?_
  refine ph_istore X hl dL_law_21 (by decide) rfl (fun ls hl => ?_)
  obtain ⟨n9, hF⟩ := hF
  exact w_X0_law_23 hlt hsc hret n9 _ _ _ _ _ _ _ _ _ _ _ _ hF X hP hag (lh_sub hl [4, 3, 2, 1, 0] rfl)

end HGL
