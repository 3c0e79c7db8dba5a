def xPreA (E : xG) (A : Nat → Prop) (av : List Value) (P : Heap → Prop) : Array Value → State → Prop := fun v U => v = av.toArray ∧ xE E A U U.heap ∧ P U.heap ∧ xAA U
theorem xPreA_blind {E : xG} {A : Nat → Prop} {av : List Value} {P : Heap → Prop} : FrameBlind (xPreA E A av P) := by
  intro a U g mk h
  exact ⟨h.1, h.2.1.blind (U := U.calling g mk a) rfl, h.2.2.1, h.2.2.2⟩
theorem xPreA_at {E : xG} {A B : Nat → Prop} {s U : State} {H0 H : Heap} {locs : List Loc} {av : List Value} {P : Heap → Prop} (h : xE E A s H0) (hA : xAA s) (hS : va_S A H0 H locs) (hB : ∀ q, B q → A q) (hP : P H) (hU : U.heap = H) (hW : s.WarmedH U.vm) : xPreA E B av P av.toArray U := by
  refine ⟨rfl, ?_, ?_, hA.moved hW.alike⟩
  · rw [hU]; exact h.at hS hB hW
  · rw [hU]; exact hP

set_option maxHeartbeats 4000000 in
set_option maxRecDepth 100000 in
theorem mt_init (l : Launch) (E : xG) (mo sz : Nat) : Met l yX4_init (ws_ yX4_init cX4_init 1 none) ({ frames := 3, cells := 9, slots := 150, locals := 120 } : Room) (xPreA E (fun q => q = mo ∨ sz ≤ q) [.ref mo] (fun H => H.size = sz ∧ xO E mo 3 [.int 0, .int (nI 0), .null, .int (nI 0), .null, .int 0, .null, .null] H)) (xQv (fun q => q = mo ∨ sz ≤ q) (fun H => ∃ aS aT aW aO tr, xM E mo aS aT aW aO tr 0 12 (fun _ => 0) 0 (fun _ _ => 0) 0 (fun _ => -1) (fun _ => 0) H ∧ xMd mo aS aT aW aO tr ∧ ∀ q, xMF mo aS aT aW aO tr q → q = mo ∨ sz ≤ q)) 9 150 (fun q => q = mo ∨ sz ≤ q) := by
  refine Met.ofW (cc := cX4_init) (maxL := 1) (ret := none) (by decide) rfl ?_
  intro P0 e0 s m0 args below meth c0 s₁ B hml hv
  obtain ⟨rfl, hE, ⟨hsz, hO⟩, hAA⟩ := hv
  have hx := B.exec
  have hb := B.bytes
  have hr := B.returns
  have hts := atoms_spec (ws := ws_ yX4_init cX4_init 1 none) B.pre
  have hts : ∀ w ∈ lw_all, w.before _ s = true := fun w h => hts w (List.mem_cons_of_mem _ h)
  have hown : s.vm.findClass RX4 = some m0.cls := findClass_of_methodNamed B.named
  have hlocks := B.notSynchronized
  have hin : meth.name = "<init>" := (name_of_methodNamed B.named B.method).1
  have hS : va_S (fun q => q = mo ∨ sz ≤ q) s.heap s.heap [] := va_S.rf
  have hl := lv_entry ([.ref mo]) (n := 1) (Nat.le_of_ble_eq_true rfl)
  rw [lg_entry_eq]
  generalize (lg_sl ([.ref mo]) ++ List.replicate (1 - (lg_sl ([.ref mo])).length) Slot.unset).toArray = ls at hl ⊢
  have hl : lv_has ls 1 [(0, .ref mo)] := hl
  have hml_ := hO.lt
  refine lv_aload_n hx hb dX4_init_0 rfl (lv_at hl 0 rfl) ?_
  refine W.objInit hx hb hown (hts _ q781) (hts _ q68) (hts _ q69) rfl (by rw [hml]; exact hl.1) rfl dX4_init_1 (Nat.le_of_ble_eq_true rfl) (Nat.le_of_ble_eq_true rfl) ?_
  refine W.eq (g2 := F0 m0 4 ls []) rfl ?_
  refine lv_aload_n hx hb dX4_init_4 rfl (lv_at hl 0 rfl) ?_
  refine lv_bipush (v := (nI 12)) hx hb dX4_init_5 (by decide) ?_
  refine xr_put hx hb hts in_X4 tyX4 tyX4_ok nmX4 hown hE hS (Or.inl rfl) hO rfl 1 (by decide) (hts _ q788) (fun _ h => h) rfl (ty := tyX4 1) (by decide) rfl rfl (Nat.le_of_ble_eq_true rfl) dX4_init_7 (fun H_1 L_2 hO hz_3 ho_4 hS => ?_)
  have hO : xO E mo 3 [.int 0, .int (nI 12), .null, .int (nI 0), .null, .int 0, .null, .null] H_1 := hO
  refine lv_aload_n hx hb dX4_init_10 rfl (lv_at hl 0 rfl) ?_
  refine lv_bipush (v := (nI 40)) hx hb dX4_init_11 (by decide) ?_
  refine xr_newi hx hb (hts _ q680) hE hS (n := 40) (by omega) (show 0 + 1 ≤ 9 by omega) (show 0 + 40 ≤ 150 by omega) dX4_init_13 (fun aS H_5 eaS hI1 hz_6 ho_7 hS => ?_)
  have hO := hO.kept (ho_7 _ hO.lt)
  have n1 : aS ≠ mo := by omega
  refine xr_putF hx hb hts in_X4 tyX4 tyX4_ok nmX4 hown hE hS (Or.inl rfl) hO rfl 2 (by decide) (hts _ q789) (fun _ h => h) rfl hin rfl (ty := tyX4 2) (by decide) rfl rfl (Nat.le_of_ble_eq_true rfl) dX4_init_15 (fun H_8 L_9 hO hz_10 ho_11 hS => ?_)
  have hO : xO E mo 3 [.int 0, .int (nI 12), .ref aS, .int (nI 0), .null, .int 0, .null, .null] H_8 := hO
  have hI1 := hI1.kept (ho_11 _ n1)
  have hz_10_sz := hz_10
  refine lv_aload_n hx hb dX4_init_18 rfl (lv_at hl 0 rfl) ?_
  refine lv_iconst (v := (nI 5)) hx hb dX4_init_19 (by decide) ?_
  refine lv_iconst (v := (nI 5)) hx hb dX4_init_20 (by decide) ?_
  have hO_ := hO.lt
  have hI1_ := hI1.lt
  refine xr_multi hx hb hown (hts _ q782) hAA (hts _ q680) hE hS (n := 5) (k := 5) (by omega) (by omega) (show 1 + (1 + 5) ≤ 9 by omega) (show 40 + (5 + 5 * 5) ≤ 150 by omega) dX4_init_21 (fun aT H_m eaT hT1 hT2 hzm hom hS => ?_)
  have hO := hO.kept (hom _ hO.lt)
  have hI1 := hI1.kept (hom _ hI1.lt)
  have n2 : aT ≠ mo := by omega
  refine xr_putF hx hb hts in_X4 tyX4 tyX4_ok nmX4 hown hE hS (Or.inl rfl) hO rfl 4 (by decide) (hts _ q791) (fun _ h => h) rfl hin rfl (ty := tyX4 4) (by decide) rfl rfl (Nat.le_of_ble_eq_true rfl) dX4_init_25 (fun H_12 L_13 hO hz_14 ho_15 hS => ?_)
  have hO : xO E mo 3 [.int 0, .int (nI 12), .ref aS, .int (nI 0), .ref aT, .int 0, .null, .null] H_12 := hO
  have hI1 := hI1.kept (ho_15 _ n1)
  have hT1 := hT1.kept (ho_15 _ n2)
  have hT2 : ∀ i, i < 5 → xI E (aT + 1 + i) 5 (fun _ => 0) H_12 := fun i hi => (hT2 i hi).kept (ho_15 _ (by omega))
  refine lv_aload_n hx hb dX4_init_28 rfl (lv_at hl 0 rfl) ?_
  refine lv_bipush (v := (nI 40)) hx hb dX4_init_29 (by decide) ?_
  refine xr_newi hx hb (hts _ q680) hE hS (n := 40) (by omega) (show 1 + 1 + 5 + 1 ≤ 9 by omega) (show 40 + 5 + 5 * 5 + 40 ≤ 150 by omega) dX4_init_31 (fun aW H_16 eaW hW1 hz_17 ho_18 hS => ?_)
  have hO := hO.kept (ho_18 _ hO.lt)
  have hI1 := hI1.kept (ho_18 _ hI1.lt)
  have hT1 := hT1.kept (ho_18 _ hT1.lt)
  have hT2 : ∀ i, i < 5 → xI E (aT + 1 + i) 5 (fun _ => 0) H_16 := fun i hi => (hT2 i hi).kept (ho_18 _ (hT2 i hi).lt)
  have n3 : aW ≠ mo := by omega
  refine xr_putF hx hb hts in_X4 tyX4 tyX4_ok nmX4 hown hE hS (Or.inl rfl) hO rfl 6 (by decide) (hts _ q793) (fun _ h => h) rfl hin rfl (ty := tyX4 6) (by decide) rfl rfl (Nat.le_of_ble_eq_true rfl) dX4_init_33 (fun H_19 L_20 hO hz_21 ho_22 hS => ?_)
  have hO : xO E mo 3 [.int 0, .int (nI 12), .ref aS, .int (nI 0), .ref aT, .int 0, .ref aW, .null] H_19 := hO
  have hI1 := hI1.kept (ho_22 _ n1)
  have hT1 := hT1.kept (ho_22 _ n2)
  have hW1 := hW1.kept (ho_22 _ n3)
  have hT2 : ∀ i, i < 5 → xI E (aT + 1 + i) 5 (fun _ => 0) H_19 := fun i hi => (hT2 i hi).kept (ho_22 _ (by omega))
  refine lv_aload_n hx hb dX4_init_36 rfl (lv_at hl 0 rfl) ?_
  refine lv_bipush (v := (nI 40)) hx hb dX4_init_37 (by decide) ?_
  refine xr_newi hx hb (hts _ q680) hE hS (n := 40) (by omega) (show 1 + 1 + 5 + 1 + 1 ≤ 9 by omega) (show 40 + 5 + 5 * 5 + 40 + 40 ≤ 150 by omega) dX4_init_39 (fun aO H_23 eaO hO1 hz_24 ho_25 hS => ?_)
  have hO := hO.kept (ho_25 _ hO.lt)
  have hI1 := hI1.kept (ho_25 _ hI1.lt)
  have hT1 := hT1.kept (ho_25 _ hT1.lt)
  have hW1 := hW1.kept (ho_25 _ hW1.lt)
  have hT2 : ∀ i, i < 5 → xI E (aT + 1 + i) 5 (fun _ => 0) H_23 := fun i hi => (hT2 i hi).kept (ho_25 _ (hT2 i hi).lt)
  have n4 : aO ≠ mo := by omega
  refine xr_putF hx hb hts in_X4 tyX4 tyX4_ok nmX4 hown hE hS (Or.inl rfl) hO rfl 7 (by decide) (hts _ q794) (fun _ h => h) rfl hin rfl (ty := tyX4 7) (by decide) rfl rfl (Nat.le_of_ble_eq_true rfl) dX4_init_41 (fun H_26 L_27 hO hz_28 ho_29 hS => ?_)
  have hO : xO E mo 3 [.int 0, .int (nI 12), .ref aS, .int (nI 0), .ref aT, .int 0, .ref aW, .ref aO] H_26 := hO
  have hI1 := hI1.kept (ho_29 _ n1)
  have hT1 := hT1.kept (ho_29 _ n2)
  have hW1 := hW1.kept (ho_29 _ n3)
  have hO1 := hO1.kept (ho_29 _ n4)
  have hT2 : ∀ i, i < 5 → xI E (aT + 1 + i) 5 (fun _ => 0) H_26 := fun i hi => (hT2 i hi).kept (ho_29 _ (by omega))
  refine lv_aload_n hx hb dX4_init_44 rfl (lv_at hl 0 rfl) ?_
  refine xr_get hx hb hts in_X4 hown hE hO rfl 6 (by decide) (hts _ q793) (fun _ h => h) rfl dX4_init_45 ?_
  have zW : sz ≤ aW := by omega
  have hxm : xM E mo aS aT aW aO (fun i => aT + 1 + i) 0 12 (fun _ => 0) 0 (fun _ _ => 0) 0 (fun _ => 0) (fun _ => 0) H_26 := ⟨⟨hO, hI1, hT1, hT2⟩, hW1, hO1⟩
  have hxd : xMd mo aS aT aW aO (fun i => aT + 1 + i) := ⟨by omega, fun i hi => (show aT + 1 + i ≠ mo ∧ aT + 1 + i ≠ aS ∧ aT + 1 + i ≠ aT ∧ aT + 1 + i ≠ aW ∧ aT + 1 + i ≠ aO by omega), fun i hi j hj h => by have h : aT + 1 + i = aT + 1 + j := h; omega⟩
  have hxF : ∀ q, xMF mo aS aT aW aO (fun i => aT + 1 + i) q → q = mo ∨ sz ≤ q := by
    rintro q ((rfl | rfl | rfl | ⟨i, hi, rfl⟩) | rfl | rfl)
    · exact Or.inl rfl
    · exact Or.inr (by omega)
    · exact Or.inr (by omega)
    · exact Or.inr (show sz ≤ aT + 1 + i by omega)
    · exact Or.inr (by omega)
    · exact Or.inr (by omega)
  refine xr_muv (va_runS (As := [.ref aW]) (rest := []) ⟨hx, hb, hml, hown, hts⟩ (mt_free l E aW (fun _ => 0)) (va_cwS 1 hts (lw_S q784 q785 q44 q786) rfl rfl rfl (by decide +kernel) ⟨Nat.le_of_ble_eq_true rfl, Nat.le_of_ble_eq_true rfl⟩) ⟨xPre_blind, fun U hU hW => xPre_at hE hS (fun q h => Or.inr (h ▸ zW)) hW1 hU hW⟩ rfl rfl hl.1 rfl (lv_room (Nat.le_of_ble_eq_true rfl)) dX4_init_48 ⟨(show 1 + 1 + 5 + 1 + 1 + 0 ≤ 9 by omega), (show 40 + 5 + 5 * 5 + 40 + 40 + 0 ≤ 150 by omega)⟩) hS (fun q h => Or.inr (h ▸ zW)) (fun q h => Or.inr (h ▸ zW)) (fun H_30 L_31 hP_ hz_32 hk_33 hS => ?_)
  obtain ⟨r_, hR_, hr_⟩ := hP_
  have hxm := hxm.setW hxd (ow' := fun _ => -1) (hR_.to (fun j hj => hr_ j hj)) (fun q h1 h2 => hk_33 q h1 h2)
  refine W.widen (k := 9) (n := 150) (by omega) (by omega) ?_
  exact W.vret hx hb hr (fun t ht hW => ⟨⟨rfl, by rw [ht]; exact ⟨aS, aT, aW, aO, _, hxm, hxd, hxF⟩⟩, hS.F ht⟩) hS.2.2 dX4_init_51
