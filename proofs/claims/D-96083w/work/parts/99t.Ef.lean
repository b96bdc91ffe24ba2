/-- a String that was made: its object, its letters -/
def strW (E : En) (q v n : Nat) (f : Nat → Int32) : va_W := [(q, .inr (15, [.ref v, .int 0, .int 0, .int 0])), (v, .inl (E.2 4, n, .inl f))]

theorem j4_init_2 (l : Launch) (E : En) (o : Nat) (qb : Nat) (vb : Nat) (mb : Nat) (kb : Nat) (fb : Nat → Int32)  (hk : kb ≤ mb ∧ mb ≤ 700) (hfb : fitB fb) : CtV l E yJ4_init_2 cJ4_init_2 5 4 1 1000 [.ref o, .ref qb, .null] ([(o, .inr (15, [.null, .int 0, .int 0, .int 0]))] ++ (sbW E qb vb mb kb fb)) (fun (u : Nat × (Nat → Int32)) => (∀ j, j < kb → u.2 j = fb j) ∧ fitB u.2) (fun (u : Nat × (Nat → Int32)) => strW E o u.1 kb u.2 ++ (sbW E qb vb mb kb fb)) := by
  refine CtV.of (by decide +kernel) (Nat.le_of_ble_eq_true rfl) ?_
  intro pR eR sR mR aR bR tR cR AR ls QR hxR hbR hmlR hts hown hlk hnm hA hK hI hl hret
  have hl : lv_has ls 5 [(0, .ref o), (1, .ref qb), (2, .null)] := hl
  refine lv_aload_n hxR hbR dJ4_init_2_0 rfl (lv_at hl 0 rfl) ?_
  refine W.objInit hxR hbR hown (hts _ q977) (hts _ q123) (hts _ q124) rfl (by rw [hmlR]; exact hl.1) rfl dJ4_init_2_1 (Nat.le_of_ble_eq_true rfl) (Nat.le_of_ble_eq_true rfl) ?_
  refine W.eq (g2 := F0 mR 4 ls []) rfl ?_
  refine lv_aload_n hxR hbR dJ4_init_2_4 rfl (lv_at hl 1 rfl) ?_
  have hI : wI E AR sR _ _ (sbW E qb vb mb kb fb ++ ([(o, .inr (15, [.null, .int 0, .int 0, .int 0]))])) := wI_pick ([[(o, .inr (15, [.null, .int 0, .int 0, .int 0]))], sbW E qb vb mb kb fb]) [1, 0] 2 rfl (by decide) hI
  refine kQT (n := 0) (C := RJ13) (As := []) (rest := []) (fun w => w ++ ([(o, .inr (15, [.null, .int 0, .int 0, .int 0]))])) hxR hbR hmlR hts hown hK hA hl.1 (isCtx.suf _) hI (c12_getValue l E qb vb mb kb fb) q978 q980 q981 q979 q108 q982 ⟨by decide +kernel, by decide +kernel, by decide +kernel⟩ 0 16 rfl rfl sbW_o rfl (Nat.le_of_ble_eq_true rfl) (Nat.le_of_ble_eq_true rfl) ⟨Nat.le_of_ble_eq_true rfl, Nat.le_of_ble_eq_true rfl⟩ (Nat.le_of_ble_eq_true rfl) dJ4_init_2_5 (fun u H locs hp hI hz => ?_)
  have hI : wI E AR sR H locs (sbW E qb vb mb kb fb ++ ([(o, .inr (15, [.null, .int 0, .int 0, .int 0]))])) := hI
  have hI : wI E AR sR _ _ ([(o, .inr (15, [.null, .int 0, .int 0, .int 0]))] ++ (sbW E qb vb mb kb fb)) := wI_pick ([sbW E qb vb mb kb fb, [(o, .inr (15, [.null, .int 0, .int 0, .int 0]))]]) [1, 0] 2 rfl (by decide) hI
  refine lv_astore_n (lv' := [(3, .ref vb), (0, .ref o), (1, .ref qb), (2, .null)]) hxR hbR dJ4_init_2_8 rfl hl (by decide) rfl (fun ls hl => ?_)
  refine lv_aload_n hxR hbR dJ4_init_2_9 rfl (lv_at hl 2 rfl) ?_
  have hI : wI E AR sR _ _ (sbW E qb vb mb kb fb ++ ([(o, .inr (15, [.null, .int 0, .int 0, .int 0]))])) := wI_pick ([[(o, .inr (15, [.null, .int 0, .int 0, .int 0]))], sbW E qb vb mb kb fb]) [1, 0] 2 rfl (by decide) hI
  refine kUI (n := 0) (x := yJ12_length) (C := RJ13) (As := []) (rest := []) (fun w => w ++ ([(o, .inr (15, [.null, .int 0, .int 0, .int 0]))])) hxR hbR hmlR hts hown hK hA hl.1 (isCtx.suf _) hI (c13_length l E qb vb mb kb fb) (lw_U q983 q985 q984 q986 q987 q109 q988) q990 ⟨by decide +kernel, by decide +kernel, by decide +kernel⟩ 0 16 rfl rfl sbW_o rfl (Nat.le_of_ble_eq_true rfl) (Nat.le_of_ble_eq_true rfl) ⟨Nat.le_of_ble_eq_true rfl, Nat.le_of_ble_eq_true rfl⟩ (Nat.le_of_ble_eq_true rfl) dJ4_init_2_10 (fun r_10 u H locs hp hI hz => ?_)
  have hp : r_10 = nI kb := hp
  subst hp
  have hI : wI E AR sR H locs (sbW E qb vb mb kb fb ++ ([(o, .inr (15, [.null, .int 0, .int 0, .int 0]))])) := hI
  have hI : wI E AR sR _ _ ([(o, .inr (15, [.null, .int 0, .int 0, .int 0]))] ++ (sbW E qb vb mb kb fb)) := wI_pick ([sbW E qb vb mb kb fb, [(o, .inr (15, [.null, .int 0, .int 0, .int 0]))]]) [1, 0] 2 rfl (by decide) hI
  refine lv_istore (lv' := [(4, .int (nI kb)), (3, .ref vb), (0, .ref o), (1, .ref qb), (2, .null)]) hxR hbR dJ4_init_2_13 hl (by decide) rfl (fun ls hl => ?_)
  refine lv_aload_n hxR hbR dJ4_init_2_15 rfl (lv_at hl 3 rfl) ?_
  have hI : wI E AR sR _ _ (sbW E qb vb mb kb fb ++ ([(o, .inr (15, [.null, .int 0, .int 0, .int 0]))])) := wI_pick ([[(o, .inr (15, [.null, .int 0, .int 0, .int 0]))], sbW E qb vb mb kb fb]) [1, 0] 2 rfl (by decide) hI
  refine kQI (n := 0) (C := RJ13) (As := []) (rest := []) (fun w => w ++ ([(o, .inr (15, [.null, .int 0, .int 0, .int 0]))])) hxR hbR hmlR hts hown hK hA hl.1 (isCtx.suf _) hI (c12_isLatin1 l E qb vb mb kb fb  ) q991 q915 q916 q914 q108 q917 ⟨by decide +kernel, by decide +kernel, by decide +kernel⟩ 0 16 rfl rfl sbW_o rfl (Nat.le_of_ble_eq_true rfl) (Nat.le_of_ble_eq_true rfl) ⟨Nat.le_of_ble_eq_true rfl, Nat.le_of_ble_eq_true rfl⟩ (Nat.le_of_ble_eq_true rfl) dJ4_init_2_16 (fun r_16 u H locs hp hI hz => ?_)
  have hp : r_16 = 1 := hp
  subst hp
  have hI : wI E AR sR H locs (sbW E qb vb mb kb fb ++ ([(o, .inr (15, [.null, .int 0, .int 0, .int 0]))])) := hI
  refine lv_if_eq (tgt := 41) hxR hbR dJ4_init_2_19 (by decide) (fun c => absurd c (by decide)) (fun _ => ?_)
  refine lv_aload_n hxR hbR dJ4_init_2_22 rfl (lv_at hl 2 rfl) ?_
  refine lv_iconst (v := 0) hxR hbR dJ4_init_2_23 (by decide) ?_
  refine r_putF (v := .int 0) (ws1 := sbW E qb vb mb kb fb ++ ([(o, .inr (15, [.null, .int 0, .int 0, .int 0]))])) hxR hbR hts hown hK hI okJ4 (ci := 15) rfl (2 + 0) (he_r (Nat.le_of_ble_eq_true rfl) (Nat.le_of_ble_eq_true rfl) rfl) 1 (by decide) q1016 rfl rfl hnm rfl rfl rfl (Nat.le_of_ble_eq_true rfl) (hw_r (Nat.le_of_ble_eq_true rfl) (Nat.le_of_ble_eq_true rfl) rfl) dJ4_init_2_24 (fun H locs hI => ?_)
  refine lv_aload_n hxR hbR dJ4_init_2_27 rfl (lv_at hl 2 rfl) ?_
  refine lv_aload_n hxR hbR dJ4_init_2_28 rfl (lv_at hl 1 rfl) ?_
  refine lv_iconst (v := 0) hxR hbR dJ4_init_2_29 (by decide) ?_
  refine lv_iload hxR hbR dJ4_init_2_30 (lv_at hl 0 rfl) ?_
  have hI : wI E AR sR H locs ([(qb, .inr (16, [.ref vb, .int 0, .int 0, .int (nI kb)]))] ++ (byW E vb mb fb ++ ([(o, .inr (15, [.null, .int 0, .int 0, .int 0]))]))) := hI
  have hI : wI E AR sR _ _ ([(qb, .inr (16, [.ref vb, .int 0, .int 0, .int (nI kb)]))] ++ ([(o, .inr (15, [.null, .int 0, .int 0, .int 0]))] ++ (byW E vb mb fb))) := wI_pick ([[(qb, .inr (16, [.ref vb, .int 0, .int 0, .int (nI kb)]))], byW E vb mb fb, [(o, .inr (15, [.null, .int 0, .int 0, .int 0]))]]) [0, 2, 1] 3 rfl (by decide) hI
  have hI := wI_w app2 hI
  refine kSR (n := 3) (As := [.ref vb, .int 0, .int (nI kb)]) (rest := [.ref o]) (fun w => ([(qb, .inr (16, [.ref vb, .int 0, .int 0, .int (nI kb)]))] ++ ([(o, .inr (15, [.null, .int 0, .int 0, .int 0]))])) ++ w) hxR hbR hmlR hts hown hK hA hl.1 (isCtx.pre _) hI (c16_copyOfRange l E vb mb fb kb ⟨hk.1, by omega⟩ hfb) (lw_S q992 q993 q112 q994) (by decide +kernel) rfl (Nat.le_of_ble_eq_true rfl) (Nat.le_of_ble_eq_true rfl) ⟨Nat.le_of_ble_eq_true rfl, Nat.le_of_ble_eq_true rfl⟩ (Nat.le_of_ble_eq_true rfl) dJ4_init_2_32 (fun u r_32 H locs hp hI hz => ?_)
  obtain ⟨f2_32, rfl⟩ : ∃ z, z = u := ⟨_, rfl⟩
  have hI := wI_w app2.symm hI
  have hI : wI E AR sR H locs ([(qb, .inr (16, [.ref vb, .int 0, .int 0, .int (nI kb)]))] ++ ([(o, .inr (15, [.null, .int 0, .int 0, .int 0]))] ++ (byW E vb mb fb ++ (byW E r_32 kb f2_32)))) := hI
  have hp : (∀ j, j < kb → f2_32 j = fb j) ∧ fitB f2_32 := hp
  obtain ⟨h2_32, h3_32⟩ := hp
  refine r_putF (v := .ref r_32) (ws1 := [(qb, .inr (16, [.ref vb, .int 0, .int 0, .int (nI kb)]))] ++ ([(o, .inr (15, [.ref r_32, .int 0, .int 0, .int 0]))] ++ (byW E vb mb fb ++ (byW E r_32 kb f2_32)))) hxR hbR hts hown hK hI okJ4 (ci := 15) rfl (1 + 0) (he_r (Nat.le_of_ble_eq_true rfl) (Nat.le_of_ble_eq_true rfl) (he_l rfl)) 0 (by decide) q1015 rfl rfl hnm rfl rfl rfl (Nat.le_of_ble_eq_true rfl) (hw_r (Nat.le_of_ble_eq_true rfl) (Nat.le_of_ble_eq_true rfl) (hw_l (Nat.le_of_ble_eq_true rfl) rfl)) dJ4_init_2_35 (fun H locs hI => ?_)
  refine lv_goto (tgt := 97) hxR hbR dJ4_init_2_38 (by decide) ?_
  have hI : wI E AR sR _ _ ([(o, .inr (15, [.ref r_32, .int 0, .int 0, .int 0]))] ++ (byW E r_32 kb f2_32 ++ ([(qb, .inr (16, [.ref vb, .int 0, .int 0, .int (nI kb)]))] ++ (byW E vb mb fb)))) := wI_pick ([[(qb, .inr (16, [.ref vb, .int 0, .int 0, .int (nI kb)]))], [(o, .inr (15, [.ref r_32, .int 0, .int 0, .int 0]))], byW E vb mb fb, byW E r_32 kb f2_32]) [1, 3, 0, 2] 4 rfl (by decide) hI
  have hI : wI E AR sR H locs (strW E o r_32 kb f2_32 ++ (sbW E qb vb mb kb fb)) := hI
  exact hret (r_32, f2_32) _ _ _ _ _ _ dJ4_init_2_97 hI ⟨h2_32, h3_32⟩ (Nat.le_of_ble_eq_true rfl) (Nat.le_of_ble_eq_true rfl)
