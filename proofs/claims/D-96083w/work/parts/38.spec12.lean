/-! SPEC 12: the ways -/
def prJ (M : Nat → Nat → Bool) (p : Nat) : Nat → List (Nat × Nat)
  | 0 => []
  | j + 1 => prJ M p j ++ (if p < j ∧ M p j = true then [(p, j)] else [])
def prI (M : Nat → Nat → Bool) (n : Nat) : Nat → List (Nat × Nat)
  | 0 => []
  | i + 1 => prI M n i ++ prJ M i n
def prM (K : Nat → Nat → Int32) (S p q : Nat) : Bool := S.testBit p && S.testBit q && decide (K p q = -1)
def prS (S p q : Nat) : Bool := S.testBit p && S.testBit q
def prL (K : Nat → Nat → Int32) (S n : Nat) : List (Nat × Nat) := prI (prM K S) n n
section PR
variable {M M' : Nat → Nat → Bool} {p q n i j : Nat}
theorem prJ_0 : ∀ {j : Nat}, j ≤ p + 1 → prJ M p j = []
  | 0, _ => rfl
  | j + 1, h => by rw [prJ, prJ_0 (by omega), if_neg (by omega)]; rfl
theorem prJ_n (h : M p j = false) : prJ M p (j + 1) = prJ M p j := by rw [prJ, if_neg (by rw [h]; simp), List.append_nil]
theorem prJ_y (hp : p < j) (h : M p j = true) : prJ M p (j + 1) = prJ M p j ++ [(p, j)] := by rw [prJ, if_pos ⟨hp, h⟩]
theorem prJ_mono : ∀ {k : Nat}, j ≤ k → (prJ M p j).length ≤ (prJ M p k).length
  | 0, h => by rw [show j = 0 by omega]; exact Nat.le_refl _
  | k + 1, h => by
    by_cases e : j = k + 1
    · rw [e]; exact Nat.le_refl _
    · have := prJ_mono (k := k) (by omega)
      rw [prJ, List.length_append]
      omega
theorem prI_mono : ∀ {k : Nat}, i ≤ k → (prI M n i).length ≤ (prI M n k).length
  | 0, h => by rw [show i = 0 by omega]; exact Nat.le_refl _
  | k + 1, h => by
    by_cases e : i = k + 1
    · rw [e]; exact Nat.le_refl _
    · have := prI_mono (k := k) (by omega)
      rw [prI, List.length_append]
      omega
theorem prJ_le (h : ∀ p q, M p q = true → M' p q = true) : ∀ j, (prJ M p j).length ≤ (prJ M' p j).length
  | 0 => Nat.le_refl _
  | j + 1 => by
    have := prJ_le h j
    rw [prJ, prJ, List.length_append, List.length_append]
    by_cases e : p < j ∧ M p j = true
    · rw [if_pos e, if_pos ⟨e.1, h _ _ e.2⟩]
      simp only [List.length_singleton]
      omega
    · rw [if_neg e]
      simp only [List.length_nil]
      omega
theorem prI_le (h : ∀ p q, M p q = true → M' p q = true) {m : Nat} (hm : n ≤ m) : ∀ i, (prI M n i).length ≤ (prI M' m i).length
  | 0 => Nat.le_refl _
  | i + 1 => by
    have h1 := prI_le h hm i
    have h2 := prJ_le (p := i) h n
    have h3 := prJ_mono (M := M') (p := i) hm
    rw [prI, prI, List.length_append, List.length_append]
    omega
end PR
theorem pr_all : ∀ S, S < 128 → bitsN S 8 ≤ 5 → (prI (prS S) 7 7).length ≤ 10 := by decide +kernel
theorem pr_10 {K : Nat → Nat → Int32} {S n i : Nat} (hS : S < 128) (h5 : bitsN S 8 ≤ 5) (hn : n ≤ 7) (hi : i ≤ n) : (prI (prM K S) n i).length ≤ 10 := by
  have h1 := prI_le (M := prM K S) (M' := prS S) (n := n) (m := 7) (fun p q h => by
    unfold prM at h; unfold prS
    rw [Bool.and_eq_true] at h
    exact h.1) hn i
  have h2 := prI_mono (M := prS S) (n := 7) (i := i) (k := 7) (by omega)
  have h3 := pr_all S hS h5
  omega
theorem pr_lt {K : Nat → Nat → Int32} {S n i j : Nat} (hS : S < 128) (h5 : bitsN S 8 ≤ 5) (hn : n ≤ 7) (hi : i < n) (hj : j < n) (hij : i < j) (h : prM K S i j = true) : (prI (prM K S) n i ++ prJ (prM K S) i j).length < 10 := by
  have h1 := pr_10 (K := K) hS h5 hn (i := i + 1) (by omega)
  have h2 := prJ_mono (M := prM K S) (p := i) (j := j + 1) (k := n) (by omega)
  rw [prI, List.length_append] at h1
  rw [prJ_y hij h, List.length_append] at h2
  simp only [List.length_singleton] at h2
  rw [List.length_append]
  omega
theorem prJ_mem {M : Nat → Nat → Bool} {p : Nat} : ∀ {j : Nat} {x : Nat × Nat}, x ∈ prJ M p j → x.1 = p ∧ x.1 < x.2 ∧ x.2 < j
  | 0, x, h => by rw [prJ] at h; cases h
  | j + 1, x, h => by
    rw [prJ] at h
    rcases List.mem_append.mp h with h | h
    · have := prJ_mem h; omega
    · by_cases e : p < j ∧ M p j = true
      · rw [if_pos e] at h
        have := List.mem_singleton.mp h
        subst this
        exact ⟨rfl, e.1, Nat.lt_succ_self _⟩
      · rw [if_neg e] at h; cases h
theorem prI_mem {M : Nat → Nat → Bool} {n : Nat} : ∀ {i : Nat} {x : Nat × Nat}, x ∈ prI M n i → x.1 < x.2 ∧ x.2 < n
  | 0, x, h => by rw [prI] at h; cases h
  | i + 1, x, h => by
    rw [prI] at h
    rcases List.mem_append.mp h with h | h
    · exact prI_mem h
    · have := prJ_mem h; omega
theorem pget_mem {L : List (Nat × Nat)} {k : Nat} (h : k < L.length) : L.getD k (0, 0) ∈ L := by
  rw [List.getD_eq_getElem?_getD, List.getElem?_eq_getElem h]
  exact List.getElem_mem h
/-- what lies in pairP, pairQ, pairWays -/
def prA (L : List (Nat × Nat)) (f g h : Nat → Int32) : Prop := ∀ k, k < L.length → f k = nI (L.getD k (0, 0)).1 ∧ g k = nI (L.getD k (0, 0)).2 ∧ h k = 0
theorem prA.nil {f g h : Nat → Int32} : prA [] f g h := fun _ hk => absurd hk (Nat.not_lt_zero _)
theorem prA.push {L : List (Nat × Nat)} {f g h : Nat → Int32} {p q : Nat} (hA : prA L f g h) : prA (L ++ [(p, q)]) (va_up f L.length (nI p)) (va_up g L.length (nI q)) (va_up h L.length 0) := by
  intro k hk
  rw [List.length_append, List.length_singleton] at hk
  rw [List.getD_eq_getElem?_getD]
  by_cases e : k = L.length
  · subst e
    rw [va_up_s, va_up_s, va_up_s, List.getElem?_append_right (Nat.le_refl _), Nat.sub_self]
    exact ⟨rfl, rfl, rfl⟩
  · rw [va_up_n e, va_up_n e, va_up_n e, List.getElem?_append_left (by omega), ← List.getD_eq_getElem?_getD]
    exact hA k (by omega)
def wyK (K : Nat → Nat → Int32) (L : List (Nat × Nat)) (m : Nat) : Nat → Nat → Nat → Int32
  | 0 => K
  | k + 1 => if m >>> k &&& 1 = 0 then wyK K L m k else knF (wyK K L m k) (L.getD k (0, 0)).1 (L.getD k (0, 0)).2 0
def wyO (K : Nat → Nat → Int32) (S n st m : Nat) : Bool := decide (cntL S (GL (wyK K (prL K S n) m (prL K S n).length) n st) = 0)
def wyN (K : Nat → Nat → Int32) (S n st : Nat) : Nat → Nat
  | 0 => 0
  | m + 1 => wyN K S n st m + (if wyO K S n st m = true then 1 else 0)
def wyC (K : Nat → Nat → Int32) (S n st k : Nat) : Nat → Nat
  | 0 => 0
  | m + 1 => wyC K S n st k m + (if wyO K S n st m = true then m >>> k &&& 1 else 0)
theorem prM_1 {K : Nat → Nat → Int32} {S p q : Nat} (h : S.testBit p = false) : prM K S p q = false := by unfold prM; rw [h]; rfl
theorem prM_2 {K : Nat → Nat → Int32} {S p q : Nat} (h : S.testBit q = false) : prM K S p q = false := by unfold prM; rw [h, Bool.and_false]; rfl
theorem prM_3 {K : Nat → Nat → Int32} {S p q : Nat} (h : ¬ K p q = -1) : prM K S p q = false := by unfold prM; rw [decide_eq_false h, Bool.and_false]
theorem prM_y {K : Nat → Nat → Int32} {S p q : Nat} (h : S.testBit p = true) (h2 : S.testBit q = true) (h3 : K p q = -1) : prM K S p q = true := by unfold prM; rw [h, h2, decide_eq_true h3]; rfl
section WY
variable {K Kx : Nat → Nat → Int32} {S n st m k : Nat}
theorem wyK_0 {L : List (Nat × Nat)} (h : m >>> k &&& 1 = 0) (e : Kx = wyK K L m k) : Kx = wyK K L m (k + 1) := by rw [wyK, if_pos h, e]
theorem wyK_1 {L : List (Nat × Nat)} (h : ¬ m >>> k &&& 1 = 0) (e : Kx = wyK K L m k) : knF Kx (L.getD k (0, 0)).1 (L.getD k (0, 0)).2 0 = wyK K L m (k + 1) := by rw [wyK, if_neg h, e]
theorem wyO_t (e : Kx = wyK K (prL K S n) m k) (hk : k = (prL K S n).length) (h : cntL S (GL Kx n st) = 0) : wyO K S n st m = true := by
  subst hk e
  exact decide_eq_true h
theorem wyO_f (e : Kx = wyK K (prL K S n) m k) (hk : k = (prL K S n).length) (h : ¬ cntL S (GL Kx n st) = 0) : ¬ wyO K S n st m = true := by
  subst hk e
  intro q
  exact h (of_decide_eq_true q)
theorem wyC_a {f : Nat → Int32} (h : ∀ z, z < k → f z = nI (wyC K S n st z (m + 1))) (ho : wyO K S n st m = true) : ∀ z, z < k + 1 → va_up f k (nI (wyC K S n st k m + (m >>> k &&& 1))) z = nI (wyC K S n st z (m + 1)) := by
  intro z hz
  by_cases e : z = k
  · subst e; rw [va_up_s, wyC, if_pos ho]
  · rw [va_up_n e]; exact h z (by omega)
theorem wyC_b {f : Nat → Int32} {t : Nat} {v : Int32} (h : ∀ z, k ≤ z → z < t → f z = nI (wyC K S n st z m)) : ∀ z, k + 1 ≤ z → z < t → va_up f k v z = nI (wyC K S n st z m) := by
  intro z h1 h2
  rw [va_up_n (by omega)]
  exact h z (by omega) h2
end WY
