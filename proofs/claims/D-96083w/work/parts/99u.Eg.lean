theorem j4_init (l : Launch) (E : En) (o : Nat) (qb : Nat) (vb : Nat) (mb : Nat) (kb : Nat) (fb : Nat → Int32)  (hk : kb ≤ mb ∧ mb ≤ 700) (hfb : fitB fb) : CtV l E yJ4_init cJ4_init 2 5 1 1000 [.ref o, .ref qb] ([(o, .inr (15, [.null, .int 0, .int 0, .int 0]))] ++ (sbW E qb vb mb kb fb)) (fun (u : Nat × (Nat → Int32)) => (∀ j, j < kb → u.2 j = fb j) ∧ fitB u.2) (fun (u : Nat × (Nat → Int32)) => strW E o u.1 kb u.2 ++ (sbW E qb vb mb kb fb)) := by
  refine CtV.of (by decide +kernel) (Nat.le_of_ble_eq_true rfl) ?_
  intro pR eR sR mR aR bR tR cR AR ls QR hxR hbR hmlR hts hown hlk hnm hA hK hI hl hret
  have hl : lv_has ls 2 [(0, .ref o), (1, .ref qb)] := hl
  refine lv_aload_n hxR hbR dJ4_init_0 rfl (lv_at hl 0 rfl) ?_
  refine lv_aload_n hxR hbR dJ4_init_1 rfl (lv_at hl 1 rfl) ?_
  refine lv_null hxR hbR dJ4_init_2 ?_
  refine kIV (n := 2) (As := [.ref qb, .null]) (rest := []) (fun w => w) hxR hbR hmlR hts hown hK hA hl.1 isCtx.id hI (j4_init_2 l E o qb vb mb kb fb hk hfb) q976 q91 q974 q975 rfl (by decide +kernel) rfl (Nat.le_of_ble_eq_true rfl) (Nat.le_of_ble_eq_true rfl) ⟨Nat.le_of_ble_eq_true rfl, Nat.le_of_ble_eq_true rfl⟩ (Nat.le_of_ble_eq_true rfl) dJ4_init_3 (fun u H locs hp hI hz => ?_)
  obtain ⟨v2_3, f2_3⟩ := u
  have hp : (∀ j, j < kb → f2_3 j = fb j) ∧ fitB f2_3 := hp
  have hI : wI E AR sR H locs (strW E o v2_3 kb f2_3 ++ (sbW E qb vb mb kb fb)) := hI
  exact hret (v2_3, f2_3) _ _ _ _ _ _ dJ4_init_6 hI hp (Nat.le_of_ble_eq_true rfl) (Nat.le_of_ble_eq_true rfl)

theorem c13_toString (l : Launch) (E : En) (qb : Nat) (vb : Nat) (mb : Nat) (kb : Nat) (fb : Nat → Int32)  (hk : kb ≤ mb ∧ mb ≤ 700) (hfb : fitB fb) : CtR l E yJ13_toString cJ13_toString 1 (Jvm.ClassFile.FieldType.object "java/lang/String") 6 2 1004 [.ref qb] (sbW E qb vb mb kb fb) (fun (u : Nat × (Nat → Int32)) => (∀ j, j < kb → u.2 j = fb j) ∧ fitB u.2) (fun (u : Nat × (Nat → Int32)) (q : Nat) => strW E q u.1 kb u.2 ++ (sbW E qb vb mb kb fb)) := by
  refine CtR.of (by decide +kernel) (Nat.le_of_ble_eq_true rfl) (by first | exact Or.inl ⟨_, rfl⟩ | exact Or.inr ⟨_, rfl⟩) ?_
  intro pR eR sR mR aR bR tR cR AR ls QR hxR hbR hmlR hts hown hlk hnm hA hK hI hl hret
  have hl : lv_has ls 1 [(0, .ref qb)] := hl
  refine r_new (fs := [.null, .int 0, .int 0, .int 0]) hxR hbR hts hown hA hK hI okJ4 (ci := 15) rfl q970 q384 q91 (by decide +kernel) (Nat.le_of_ble_eq_true rfl) (Nat.le_of_ble_eq_true rfl) dJ13_toString_0 (fun q_0 H hI => ?_)
  have hI : wI E AR sR H _ (sbW E qb vb mb kb fb ++ ([(q_0, .inr (15, [.null, .int 0, .int 0, .int 0]))])) := hI
  have hI : wI E AR sR _ _ ([(q_0, .inr (15, [.null, .int 0, .int 0, .int 0]))] ++ (sbW E qb vb mb kb fb)) := wI_pick ([sbW E qb vb mb kb fb, [(q_0, .inr (15, [.null, .int 0, .int 0, .int 0]))]]) [1, 0] 2 rfl (by decide) hI
  refine lv_dup hxR hbR dJ13_toString_3 rfl ?_
  refine lv_aload_n hxR hbR dJ13_toString_4 rfl (lv_at hl 0 rfl) ?_
  refine kIV (n := 1) (As := [.ref qb]) (rest := [.ref q_0]) (fun w => w) hxR hbR hmlR hts hown hK hA hl.1 isCtx.id hI (j4_init l E q_0 qb vb mb kb fb hk hfb) q973 q91 q971 q972 rfl (by decide +kernel) rfl (Nat.le_of_ble_eq_true rfl) (Nat.le_of_ble_eq_true rfl) ⟨Nat.le_of_ble_eq_true rfl, Nat.le_of_ble_eq_true rfl⟩ (Nat.le_of_ble_eq_true rfl) dJ13_toString_5 (fun u H locs hp hI hz => ?_)
  obtain ⟨v2_3, f2_3⟩ := u
  have hp : (∀ j, j < kb → f2_3 j = fb j) ∧ fitB f2_3 := hp
  have hI : wI E AR sR H locs (strW E q_0 v2_3 kb f2_3 ++ (sbW E qb vb mb kb fb)) := hI
  exact hret (v2_3, f2_3) q_0 _ _ _ _ _ _ dJ13_toString_8 hI hp (Nat.le_of_ble_eq_true rfl) (Nat.le_of_ble_eq_true rfl)
