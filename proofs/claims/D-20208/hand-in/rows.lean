section
/-! The pure picture: a text is t : Nat → Nat, its length n. tn_S: only digits from i to j; tn_St X i: digits from i to some j with X j; tn_Pl X i: the same with at least one digit. -/
abbrev tn_dg (c : Nat) : Prop := 48 ≤ c ∧ c ≤ 57
def tn_S (t : Nat → Nat) (i j : Nat) : Prop := ∀ k, i ≤ k → k < j → tn_dg (t k)
def tn_D (t : Nat → Nat) (i j : Nat) : Prop := i < j ∧ tn_S t i j
def tn_St (t : Nat → Nat) (n : Nat) (X : Nat → Prop) (i : Nat) : Prop := ∃ j, i ≤ j ∧ j ≤ n ∧ tn_S t i j ∧ X j
def tn_Pl (t : Nat → Nat) (n : Nat) (X : Nat → Prop) (i : Nat) : Prop := ∃ j, i < j ∧ j ≤ n ∧ tn_S t i j ∧ X j
/-- the rest of an exponent behind its 'e' -/
def tn_L5 (t : Nat → Nat) (n i : Nat) : Prop := tn_Pl t n (fun j => j = n) i ∨ (i < n ∧ (t i = 45 ∨ t i = 43) ∧ tn_Pl t n (fun j => j = n) (i + 1))
/-- nothing more, or an exponent -/
def tn_E (t : Nat → Nat) (n j : Nat) : Prop := j = n ∨ (j < n ∧ t j = 101 ∧ tn_L5 t n (j + 1))
/-- behind the whole part -/
def tn_X2 (t : Nat → Nat) (n j : Nat) : Prop := tn_E t n j ∨ (j < n ∧ t j = 46 ∧ tn_Pl t n (tn_E t n) (j + 1))
/-- the machine's next state -/
def tn_next : Nat → Nat → Nat
  | 0, c => if tn_dg c then 2 else if c = 45 then 1 else 8
  | 1, c => if tn_dg c then 2 else 8
  | 2, c => if tn_dg c then 2 else if c = 46 then 3 else if c = 101 then 5 else 8
  | 3, c => if tn_dg c then 4 else 8
  | 4, c => if tn_dg c then 4 else if c = 101 then 5 else 8
  | 5, c => if tn_dg c then 7 else if c = 45 then 6 else if c = 43 then 6 else 8
  | 6, c => if tn_dg c then 7 else 8
  | 7, c => if tn_dg c then 7 else 8
  | _, _ => 8
/-- what the machine in a state takes of the rest from i on -/
def tn_L (t : Nat → Nat) (n : Nat) : Nat → Nat → Prop
  | 0, i => (i < n ∧ t i = 45 ∧ tn_Pl t n (tn_X2 t n) (i + 1)) ∨ tn_Pl t n (tn_X2 t n) i
  | 1, i => tn_Pl t n (tn_X2 t n) i
  | 2, i => tn_St t n (tn_X2 t n) i
  | 3, i => tn_Pl t n (tn_E t n) i
  | 4, i => tn_St t n (tn_E t n) i
  | 5, i => tn_L5 t n i
  | 6, i => tn_Pl t n (fun j => j = n) i
  | 7, i => tn_St t n (fun j => j = n) i
  | _, _ => False
theorem tn_S0 (t : Nat → Nat) {i j : Nat} (h : j ≤ i) : tn_S t i j := fun k h1 h2 => absurd h2 (by omega)
theorem tn_Sc {t : Nat → Nat} {i j : Nat} (h : tn_dg (t i)) (hs : tn_S t (i + 1) j) : tn_S t i j := by
  intro k h1 h2
  by_cases e : k = i
  · rw [e]; exact h
  · exact hs k (by omega) h2
theorem tn_Sr {t : Nat → Nat} {i j : Nat} (hs : tn_S t i j) (h : tn_dg (t j)) : tn_S t i (j + 1) := by
  intro k h1 h2
  by_cases e : k = j
  · rw [e]; exact h
  · exact hs k h1 (by omega)
theorem tn_Pl_s {t : Nat → Nat} {n : Nat} {X : Nat → Prop} {i : Nat} : tn_Pl t n X i ↔ i < n ∧ tn_dg (t i) ∧ tn_St t n X (i + 1) := by
  constructor
  · rintro ⟨j, h1, h2, h3, h4⟩
    exact ⟨by omega, h3 i (by omega) h1, j, by omega, h2, fun k k1 k2 => h3 k (by omega) k2, h4⟩
  · rintro ⟨h1, h2, j, h3, h4, h5, h6⟩
    exact ⟨j, by omega, h4, tn_Sc h2 h5, h6⟩
theorem tn_St_s {t : Nat → Nat} {n : Nat} {X : Nat → Prop} {i : Nat} (hi : i ≤ n) : tn_St t n X i ↔ X i ∨ (i < n ∧ tn_dg (t i) ∧ tn_St t n X (i + 1)) := by
  constructor
  · rintro ⟨j, h1, h2, h3, h4⟩
    by_cases e : i = j
    · subst e
      exact Or.inl h4
    · exact Or.inr (tn_Pl_s.mp ⟨j, by omega, h2, h3, h4⟩)
  · rintro (h | h)
    · exact ⟨i, Nat.le_refl i, hi, tn_S0 t (Nat.le_refl i), h⟩
    · obtain ⟨j, h1, h2, h3, h4⟩ := tn_Pl_s.mpr h
      exact ⟨j, by omega, h2, h3, h4⟩
theorem tn_Pl_n {t : Nat → Nat} {n : Nat} {i : Nat} : tn_Pl t n (fun j => j = n) i ↔ tn_D t i n := by
  constructor
  · rintro ⟨j, h1, h2, h3, h4⟩
    subst h4
    exact ⟨h1, h3⟩
  · rintro ⟨h1, h2⟩
    exact ⟨n, h1, Nat.le_refl n, h2, rfl⟩
/-- at the text's end -/
theorem tn_end (t : Nat → Nat) (n q : Nat) : tn_L t n q n ↔ (q = 2 ∨ q = 4 ∨ q = 7) := by
  have hP : ∀ X : Nat → Prop, ¬ tn_Pl t n X n := fun X h => absurd (tn_Pl_s.mp h).1 (by omega)
  have hE : tn_E t n n := Or.inl rfl
  have hT : ∀ X : Nat → Prop, X n → tn_St t n X n := fun X h => (tn_St_s (Nat.le_refl n)).mpr (Or.inl h)
  match q with
  | 0 => exact ⟨fun h => h.elim (fun z => absurd z.1 (by omega)) (fun z => absurd z (hP _)), fun h => absurd h (by omega)⟩
  | 1 => exact ⟨fun h => absurd h (hP _), fun h => absurd h (by omega)⟩
  | 2 => exact ⟨fun _ => Or.inl rfl, fun _ => hT _ (Or.inl hE)⟩
  | 3 => exact ⟨fun h => absurd h (hP _), fun h => absurd h (by omega)⟩
  | 4 => exact ⟨fun _ => Or.inr (Or.inl rfl), fun _ => hT _ hE⟩
  | 5 => exact ⟨fun h => h.elim (fun z => absurd z (hP _)) (fun z => absurd z.1 (by omega)), fun h => absurd h (by omega)⟩
  | 6 => exact ⟨fun h => absurd h (hP _), fun h => absurd h (by omega)⟩
  | 7 => exact ⟨fun _ => Or.inr (Or.inr rfl), fun _ => hT _ rfl⟩
  | q + 8 => exact ⟨fun h => False.elim h, fun h => absurd h (by omega)⟩
/-- the four shapes of a step -/
theorem tn_P1 {t : Nat → Nat} {n i : Nat} {X : Nat → Prop} (hi : i < n) (hd : tn_dg (t i)) : tn_Pl t n X i ↔ tn_St t n X (i + 1) :=
  ⟨fun h => (tn_Pl_s.mp h).2.2, fun h => tn_Pl_s.mpr ⟨hi, hd, h⟩⟩
theorem tn_P0 {t : Nat → Nat} {n i : Nat} {X : Nat → Prop} (hd : ¬ tn_dg (t i)) : ¬ tn_Pl t n X i := fun h => hd (tn_Pl_s.mp h).2.1
theorem tn_T1 {t : Nat → Nat} {n i : Nat} {X : Nat → Prop} (hi : i < n) (hd : tn_dg (t i)) (hX : ¬ X i) : tn_St t n X i ↔ tn_St t n X (i + 1) :=
  ⟨fun h => ((tn_St_s (by omega)).mp h).elim (fun z => absurd z hX) (fun z => z.2.2), fun h => (tn_St_s (by omega)).mpr (Or.inr ⟨hi, hd, h⟩)⟩
theorem tn_T0 {t : Nat → Nat} {n i : Nat} {X : Nat → Prop} (hi : i < n) (hd : ¬ tn_dg (t i)) : tn_St t n X i ↔ X i :=
  ⟨fun h => ((tn_St_s (by omega)).mp h).elim id (fun z => absurd z.2.1 hd), fun h => (tn_St_s (by omega)).mpr (Or.inl h)⟩
theorem tn_E0 {t : Nat → Nat} {n i : Nat} (hi : i < n) (h : t i ≠ 101) : ¬ tn_E t n i := fun z => z.elim (fun e => absurd e (by omega)) (fun e => h e.2.1)
theorem tn_E1 {t : Nat → Nat} {n i : Nat} (hi : i < n) (h : t i = 101) : tn_E t n i ↔ tn_L5 t n (i + 1) :=
  ⟨fun z => z.elim (fun e => absurd e (by omega)) (fun e => e.2.2), fun z => Or.inr ⟨hi, h, z⟩⟩
theorem tn_X0 {t : Nat → Nat} {n i : Nat} (hi : i < n) (h : t i ≠ 101) (h' : t i ≠ 46) : ¬ tn_X2 t n i := fun z => z.elim (tn_E0 hi h) (fun e => h' e.2.1)
/-- one step of the machine -/
theorem tn_step (t : Nat → Nat) {n i : Nat} (hi : i < n) (q : Nat) : tn_L t n q i ↔ tn_L t n (tn_next q (t i)) (i + 1) := by
  by_cases hd : tn_dg (t i)
  · have h1 : t i ≠ 101 := by omega
    have h2 : t i ≠ 46 := by omega
    have h3 : t i ≠ 45 := by omega
    have h4 : t i ≠ 43 := by omega
    match q with
    | 0 =>
      rw [show tn_next 0 (t i) = 2 from if_pos hd]
      exact ⟨fun h => h.elim (fun z => absurd z.2.1 h3) (tn_P1 hi hd).mp, fun h => Or.inr ((tn_P1 hi hd).mpr h)⟩
    | 1 => rw [show tn_next 1 (t i) = 2 from if_pos hd]; exact tn_P1 hi hd
    | 2 => rw [show tn_next 2 (t i) = 2 from if_pos hd]; exact tn_T1 hi hd (tn_X0 hi h1 h2)
    | 3 => rw [show tn_next 3 (t i) = 4 from if_pos hd]; exact tn_P1 hi hd
    | 4 => rw [show tn_next 4 (t i) = 4 from if_pos hd]; exact tn_T1 hi hd (tn_E0 hi h1)
    | 5 =>
      rw [show tn_next 5 (t i) = 7 from if_pos hd]
      exact ⟨fun h => h.elim (tn_P1 hi hd).mp (fun z => z.2.1.elim (fun e => absurd e h3) (fun e => absurd e h4)), fun h => Or.inl ((tn_P1 hi hd).mpr h)⟩
    | 6 => rw [show tn_next 6 (t i) = 7 from if_pos hd]; exact tn_P1 hi hd
    | 7 => rw [show tn_next 7 (t i) = 7 from if_pos hd]; exact tn_T1 hi hd (by show ¬ i = n; omega)
    | q + 8 => exact Iff.rfl
  · match q with
    | 0 =>
      by_cases e : t i = 45
      · rw [show tn_next 0 (t i) = 1 from (if_neg hd).trans (if_pos e)]
        exact ⟨fun h => h.elim (fun z => z.2.2) (fun z => absurd z (tn_P0 hd)), fun h => Or.inl ⟨hi, e, h⟩⟩
      · rw [show tn_next 0 (t i) = 8 from (if_neg hd).trans (if_neg e)]
        exact ⟨fun h => h.elim (fun z => absurd z.2.1 e) (fun z => absurd z (tn_P0 hd)), fun h => False.elim h⟩
    | 1 => rw [show tn_next 1 (t i) = 8 from if_neg hd]; exact ⟨fun h => absurd h (tn_P0 hd), fun h => False.elim h⟩
    | 2 =>
      by_cases e : t i = 46
      · rw [show tn_next 2 (t i) = 3 from (if_neg hd).trans (if_pos e)]
        refine (tn_T0 hi hd).trans ⟨fun h => h.elim (fun z => absurd z (tn_E0 hi (by omega))) (fun z => z.2.2), fun h => Or.inr ⟨hi, e, h⟩⟩
      · by_cases e2 : t i = 101
        · rw [show tn_next 2 (t i) = 5 from (if_neg hd).trans ((if_neg e).trans (if_pos e2))]
          refine (tn_T0 hi hd).trans ⟨fun h => h.elim (tn_E1 hi e2).mp (fun z => absurd z.2.1 e), fun h => Or.inl ((tn_E1 hi e2).mpr h)⟩
        · rw [show tn_next 2 (t i) = 8 from (if_neg hd).trans ((if_neg e).trans (if_neg e2))]
          exact (tn_T0 hi hd).trans ⟨fun h => absurd h (tn_X0 hi e2 e), fun h => False.elim h⟩
    | 3 => rw [show tn_next 3 (t i) = 8 from if_neg hd]; exact ⟨fun h => absurd h (tn_P0 hd), fun h => False.elim h⟩
    | 4 =>
      by_cases e : t i = 101
      · rw [show tn_next 4 (t i) = 5 from (if_neg hd).trans (if_pos e)]
        exact (tn_T0 hi hd).trans (tn_E1 hi e)
      · rw [show tn_next 4 (t i) = 8 from (if_neg hd).trans (if_neg e)]
        exact (tn_T0 hi hd).trans ⟨fun h => absurd h (tn_E0 hi e), fun h => False.elim h⟩
    | 5 =>
      by_cases e : t i = 45
      · rw [show tn_next 5 (t i) = 6 from (if_neg hd).trans (if_pos e)]
        exact ⟨fun h => h.elim (fun z => absurd z (tn_P0 hd)) (fun z => z.2.2), fun h => Or.inr ⟨hi, Or.inl e, h⟩⟩
      · by_cases e2 : t i = 43
        · rw [show tn_next 5 (t i) = 6 from (if_neg hd).trans ((if_neg e).trans (if_pos e2))]
          exact ⟨fun h => h.elim (fun z => absurd z (tn_P0 hd)) (fun z => z.2.2), fun h => Or.inr ⟨hi, Or.inr e2, h⟩⟩
        · rw [show tn_next 5 (t i) = 8 from (if_neg hd).trans ((if_neg e).trans (if_neg e2))]
          exact ⟨fun h => h.elim (fun z => absurd z (tn_P0 hd)) (fun z => z.2.1.elim (fun g => absurd g e) (fun g => absurd g e2)), fun h => False.elim h⟩
    | 6 => rw [show tn_next 6 (t i) = 8 from if_neg hd]; exact ⟨fun h => absurd h (tn_P0 hd), fun h => False.elim h⟩
    | 7 =>
      rw [show tn_next 7 (t i) = 8 from if_neg hd]
      exact (tn_T0 hi hd).trans ⟨fun h => absurd (show i = n from h) (by omega), fun h => False.elim h⟩
    | q + 8 => exact Iff.rfl
theorem tn_next9 (q c : Nat) : tn_next q c < 9 := by
  unfold tn_next
  split <;> (repeat' split) <;> omega
/-- the plain reader: the first digit's place st, the whole part's end i, the fraction's end j -/
def tn_ok (t : Nat → Nat) (n st i j : Nat) : Prop := tn_D t st i ∧ (i = j ∨ (t i = 46 ∧ tn_D t (i + 1) j)) ∧ tn_E t n j
def tn_any (t : Nat → Nat) (n st : Nat) : Prop := ∃ i, st ≤ i ∧ i ≤ n ∧ ∃ j, i ≤ j ∧ j ≤ n ∧ tn_ok t n st i j
theorem tn_any_iff (t : Nat → Nat) (n st : Nat) : tn_any t n st ↔ tn_Pl t n (tn_X2 t n) st := by
  constructor
  · rintro ⟨i, h1, h2, j, h3, h4, ⟨d1, d2⟩, h5, h6⟩
    refine ⟨i, d1, h2, d2, ?_⟩
    rcases h5 with rfl | ⟨e, d3, d4⟩
    · exact Or.inl h6
    · exact Or.inr ⟨by omega, e, j, d3, h4, d4, h6⟩
  · rintro ⟨i, h1, h2, h3, h4⟩
    rcases h4 with h4 | ⟨g1, g2, j, g3, g4, g5, g6⟩
    · exact ⟨i, by omega, h2, i, Nat.le_refl i, h2, ⟨h1, h3⟩, Or.inl rfl, h4⟩
    · exact ⟨i, by omega, h2, j, by omega, g4, ⟨h1, h3⟩, Or.inr ⟨g2, g3, g5⟩, g6⟩
/-- the two readers agree -/
theorem tn_agree1 {t : Nat → Nat} {n : Nat} (hn : 0 < n) (h : t 0 = 45) : tn_any t n 1 ↔ tn_L t n 0 0 := by
  refine (tn_any_iff t n 1).trans ⟨fun z => Or.inl ⟨hn, h, z⟩, fun z => z.elim (fun g => g.2.2) (fun g => absurd g (tn_P0 (by omega)))⟩
theorem tn_agree0 {t : Nat → Nat} {n : Nat} (h : t 0 ≠ 45) : tn_any t n 0 ↔ tn_L t n 0 0 :=
  (tn_any_iff t n 0).trans ⟨fun z => Or.inr z, fun z => z.elim (fun g => absurd g.2.1 h) id⟩
end
section
/-! Strings of Latin-1 letters: rows of kit/laws (STRINGBUILDER-LAWS.1), the constructor's turned to this claim's two worlds (the empty text keeps the bytes of ""). -/
theorem sv_length {post : Int32 → Prop} {h z : Int32} {a : Nat → Int32} {n : Nat} (hp : post (nI n)) : wpJ0_length_8abf5_6a20e post (0, h, z, a, n) :=
  ⟨by decide, Eq.mpr (congrArg post (sb_shr0 (Int32.ofNat n))) hp⟩
theorem sv_check {post : Unit → Prop} {i n : Nat} (hi : i < n) (hn : n < 2 ^ 31) (hp : post ()) : wpJ0_checkIndex_df160_48e5c post () (nI i) (nI n) :=
  ⟨br_f (nI_pos (by omega)) (br_t (nI_lt hi hn) hp), br_f (nI_pos (by omega)) (br_t (nI_lt hi hn) hp)⟩
/-- String.charAt of a Latin-1 text -/
theorem sv_charAt {post : Int32 → Prop} {h z : Int32} {t : Nat → Nat} {a : Nat → Int32} {n i : Nat} (hn : n ≤ 65536) (hL : sb_Lat t n a) (hi : i < n) (hp : post (nI (t i))) : wpJ0_charAt_5068e_f8cf6 post (0, h, z, a, n) (nI i) := by
  obtain ⟨h1, h2⟩ := hL i hi
  obtain ⟨b1, b2, -⟩ := sb_byte _ h1
  have hc := (pk_charN (q := t i) (by omega)).1
  refine br_t rfl (br_f (by decide) ?_)
  rw [wpJ1_charAt_3b067_49ada]
  refine sv_check hi (by omega) ⟨vp_in_nI hi (by omega), ?_⟩
  rw [nI_clamp (by omega), h2, b1, b2]
  exact ⟨hc, hc, hp⟩
theorem sv_compress {P : Int32 → StJbedf7 → Prop} {t : Nat → Nat} {b : Nat → Int32} {n : Nat} (hn : n ≤ 65536) (ht : ∀ j, j < n → t j < 256 ∧ b j = nI (t j)) (hP : ∀ a', sb_Lat t n a' → sb_Fit a' → P (nI n) (b, n, a', n)) :
    ∀ (d k : Nat) (a : Nat → Int32), k + d = n → sb_Lat t k a → sb_Fit a → wJ2_compress_fe38e_1fd7f_3 P (nI n) n n (d + 1) (nI k) (nI k) (nI k) b a := by
  intro d
  induction d with
  | zero =>
    intro k a hk hL hf
    rw [wJ2_compress_fe38e_1fd7f_3]
    refine br_t ((nI_leI (by omega) (by omega)).mpr (by omega)) (hP a ?_ hf)
    rw [← show k = n by omega]
    exact hL
  | succ d ih =>
    intro k a hk hL hf
    obtain ⟨b1, b2⟩ := ht k (by omega)
    obtain ⟨-, -, b3⟩ := sb_byte _ b1
    rw [wJ2_compress_fe38e_1fd7f_3]
    refine br_f (nI_ge (by omega) (by omega)) ⟨vp_in_nI (by omega) (by omega), nm_r (e' := nI (t k)) (by rw [nI_clamp (by omega), b2]) (br_t b3 ⟨vp_in_nI (by omega) (by omega), ?_⟩)⟩
    refine nm_r (e' := upd a k (sb_b (t k))) (by rw [nI_clamp (by omega), pk_vb]; rfl) (nm_r (nI_1 k) (nm_r (nI_1 k) (nm_r (nI_1 k) ?_)))
    refine ih (k + 1) _ (by omega) (fun j hj => ?_) (sb_fitU hf (sb_fitB _))
    by_cases e : j = k
    · subst e
      exact ⟨b1, pk_us⟩
    · rw [pk_un e]
      exact hL j (by omega)
/-- new String(char[]) of n Latin-1 letters, n not 0 -/
theorem sv_new {post : (StJ0f59a ⊕ StJ64b40) → Prop} {mc ms : Nat} {c h z : Int32} {t : Nat → Nat} {b : Nat → Int32} {n : Nat} (h0 : 0 < n) (hn : n ≤ 65536) (ht : ∀ j, j < n → t j < 256 ∧ b j = nI (t j)) (hmc : 1 ≤ mc) (hms : n ≤ ms)
    (hp : ∀ a', sb_Lat t n a' → sb_Fit a' → post (.inl (0, h, z, a', n, b, n))) : wpJ0_init_905df_fc072 post mc ms (c, h, z, b, n) := by
  refine ⟨mc, ms, by omega, by omega, br_f (nI_ne0 h0 (by omega)) ⟨mc, ms, by omega, by omega, nI_pos (by omega), nm_r (nI_clamp (by omega)) ⟨by omega, hmc, by omega, n + 1, ?_⟩⟩⟩
  refine sv_compress hn ht (fun a' hL hf => ?_) n 0 _ (by omega) (fun j hj => absurd hj (Nat.not_lt_zero j)) sb_fit0
  refine br_t rfl ⟨pk_nb _, ?_⟩
  have e1 : (((Int32.ofNat n - Int32.ofNat n).toUInt32 >>> ((31 : Int32).toUInt32 &&& Int32.toUInt32 31)).toInt32).toInt8.toInt32 = 0 := by
    rw [Int32.sub_self]
    decide
  rw [e1]
  exact ⟨by decide, by decide, hp a' hL hf⟩
/-- new String(char[]) of no letters -/
theorem sv_new0 {post : (StJ0f59a ⊕ StJ64b40) → Prop} {mc ms : Nat} {c h z : Int32} {b : Nat → Int32} (hp : post (.inr (0, h, z, b, 0))) : wpJ0_init_905df_fc072 post mc ms (c, h, z, b, 0) :=
  ⟨mc, ms, by omega, by omega, br_t rfl hp⟩
/-- length of the empty text -/
theorem sv_length0 {post : Int32 → Prop} {h z : Int32} (hp : post 0) : wpJ0_length_8abf5_0516f post (0, h, z) :=
  ⟨by decide, Eq.mpr (congrArg post (sb_shr0 (Int32.ofNat 0))) hp⟩
end
section
/-! TextScans.isNumber -/
theorem tn_37 {post : Int32 → Prop} {J : Int32 → Nat → Prop} {h z : Int32} {a : Nat → Int32} {n i c q : Nat} {z0 : Int32} (hc : c < 256) (hq : q < 9) (hz : (z0 = 0 ∧ ¬ tn_dg c) ∨ (z0 = 1 ∧ tn_dg c))
    (h8 : q = 8 → post 0) (hJ : ∀ q', tn_next q c = q' → J (nI (i + 1)) q') : wX1_isNumber_37 post J (nI i) (nI c) z0 q 0 h z a n := by
  rcases hz with ⟨rfl, hd⟩ | ⟨rfl, hd⟩
  · match q, hq with
    | 0, _ =>
      refine ⟨by decide, by decide, br_f (by decide) (br_f (by decide) (br_t (by decide) (br_t rfl ?_)))⟩
      exact pk_eq c 45 (fun e => nm_r (nI_1 i) (hJ 1 ((if_neg hd).trans (if_pos e)))) (fun e => nm_r (nI_1 i) (hJ 8 ((if_neg hd).trans (if_neg e))))
    | 1, _ =>
      refine ⟨by decide, by decide, br_f (by decide) (br_f (by decide) (br_f (by decide) (br_t (by decide) (br_t rfl ?_))))⟩
      exact nm_r (nI_1 i) (hJ 8 (if_neg hd))
    | 2, _ =>
      refine ⟨by decide, by decide, br_f (by decide) (br_f (by decide) (br_f (by decide) (br_f (by decide) (br_t (by decide) (br_t rfl ?_)))))⟩
      exact pk_eq c 46 (fun e => nm_r (nI_1 i) (hJ 3 ((if_neg hd).trans (if_pos e)))) (fun e => pk_eq c 101 (fun e2 => nm_r (nI_1 i) (hJ 5 ((if_neg hd).trans ((if_neg e).trans (if_pos e2))))) (fun e2 => nm_r (nI_1 i) (hJ 8 ((if_neg hd).trans ((if_neg e).trans (if_neg e2))))))
    | 3, _ =>
      refine ⟨by decide, by decide, br_f (by decide) (br_f (by decide) (br_f (by decide) (br_f (by decide) (br_f (by decide) (br_t (by decide) (br_t rfl ?_))))))⟩
      exact pk_eq c 101 (fun e => ⟨by decide, br_f (by decide) (nm_r (nI_1 i) (hJ 8 (if_neg hd)))⟩) (fun e => nm_r (nI_1 i) (hJ 8 (if_neg hd)))
    | 4, _ =>
      refine ⟨by decide, by decide, br_f (by decide) (br_f (by decide) (br_f (by decide) (br_f (by decide) (br_f (by decide) (br_f (by decide) (br_t (by decide) (br_t rfl ?_)))))))⟩
      exact pk_eq c 101 (fun e => ⟨by decide, br_t rfl (nm_r (nI_1 i) (hJ 5 ((if_neg hd).trans (if_pos e))))⟩) (fun e => nm_r (nI_1 i) (hJ 8 ((if_neg hd).trans (if_neg e))))
    | 5, _ =>
      refine ⟨by decide, by decide, br_f (by decide) (br_f (by decide) (br_f (by decide) (br_f (by decide) (br_f (by decide) (br_f (by decide) (br_f (by decide) (br_t (by decide) (br_t rfl ?_))))))))⟩
      exact pk_eq c 45 (fun e => nm_r (nI_1 i) (hJ 6 ((if_neg hd).trans (if_pos e)))) (fun e => pk_eq c 43 (fun e2 => nm_r (nI_1 i) (hJ 6 ((if_neg hd).trans ((if_neg e).trans (if_pos e2))))) (fun e2 => nm_r (nI_1 i) (hJ 8 ((if_neg hd).trans ((if_neg e).trans (if_neg e2))))))
    | 6, _ =>
      refine ⟨by decide, by decide, br_f (by decide) (br_f (by decide) (br_f (by decide) (br_f (by decide) (br_f (by decide) (br_f (by decide) (br_f (by decide) (br_f (by decide) (br_t (by decide) (br_t rfl ?_)))))))))⟩
      exact nm_r (nI_1 i) (hJ 8 (if_neg hd))
    | 7, _ =>
      refine ⟨by decide, by decide, br_f (by decide) (br_f (by decide) (br_f (by decide) (br_f (by decide) (br_f (by decide) (br_f (by decide) (br_f (by decide) (br_f (by decide) (br_f (by decide) (br_t (by decide) (br_t rfl ?_))))))))))⟩
      exact nm_r (nI_1 i) (hJ 8 (if_neg hd))
    | 8, _ => exact ⟨by decide, by decide, br_f (by decide) (br_t (by decide) (h8 rfl))⟩
  · match q, hq with
    | 0, _ =>
      refine ⟨by decide, by decide, br_f (by decide) (br_f (by decide) (br_t (by decide) (br_f (by decide) ?_)))⟩
      exact nm_r (nI_1 i) (hJ 2 (if_pos hd))
    | 1, _ =>
      refine ⟨by decide, by decide, br_f (by decide) (br_f (by decide) (br_f (by decide) (br_t (by decide) (br_f (by decide) ?_))))⟩
      exact nm_r (nI_1 i) (hJ 2 (if_pos hd))
    | 2, _ =>
      refine ⟨by decide, by decide, br_f (by decide) (br_f (by decide) (br_f (by decide) (br_f (by decide) (br_t (by decide) (br_f (by decide) ?_)))))⟩
      exact nm_r (nI_1 i) (hJ 2 (if_pos hd))
    | 3, _ =>
      refine ⟨by decide, by decide, br_f (by decide) (br_f (by decide) (br_f (by decide) (br_f (by decide) (br_f (by decide) (br_t (by decide) (br_f (by decide) ?_))))))⟩
      exact nm_r (nI_1 i) (hJ 4 (if_pos hd))
    | 4, _ =>
      refine ⟨by decide, by decide, br_f (by decide) (br_f (by decide) (br_f (by decide) (br_f (by decide) (br_f (by decide) (br_f (by decide) (br_t (by decide) (br_f (by decide) ?_)))))))⟩
      exact nm_r (nI_1 i) (hJ 4 (if_pos hd))
    | 5, _ =>
      refine ⟨by decide, by decide, br_f (by decide) (br_f (by decide) (br_f (by decide) (br_f (by decide) (br_f (by decide) (br_f (by decide) (br_f (by decide) (br_t (by decide) (br_f (by decide) ?_))))))))⟩
      exact nm_r (nI_1 i) (hJ 7 (if_pos hd))
    | 6, _ =>
      refine ⟨by decide, by decide, br_f (by decide) (br_f (by decide) (br_f (by decide) (br_f (by decide) (br_f (by decide) (br_f (by decide) (br_f (by decide) (br_f (by decide) (br_t (by decide) (br_f (by decide) ?_)))))))))⟩
      exact nm_r (nI_1 i) (hJ 7 (if_pos hd))
    | 7, _ =>
      refine ⟨by decide, by decide, br_f (by decide) (br_f (by decide) (br_f (by decide) (br_f (by decide) (br_f (by decide) (br_f (by decide) (br_f (by decide) (br_f (by decide) (br_f (by decide) (br_t (by decide) (br_f (by decide) ?_))))))))))⟩
      exact nm_r (nI_1 i) (hJ 7 (if_pos hd))
    | 8, _ => exact ⟨by decide, by decide, br_f (by decide) (br_t (by decide) (h8 rfl))⟩
theorem tn_x6 {post : Int32 → Prop} {h z : Int32} {t : Nat → Nat} {a : Nat → Int32} {n : Nat} (hn : n ≤ 65536) (hL : sb_Lat t n a) :
    ∀ (d i q : Nat), i + d = n → q < 9 → (tn_L t n q i → post 1) → (¬ tn_L t n q i → post 0) → wX1_isNumber_6 post 0 h z a n (d + 1) (nI i) q := by
  intro d
  induction d with
  | zero =>
    intro i q hi hq h1 h0
    obtain rfl : i = n := by omega
    rw [wX1_isNumber_6]
    refine sv_length (br_t (nI_le (Nat.le_refl _) (by omega)) ⟨hq, br_c (fun e => ?_) (fun e => br_c (fun e2 => ?_) (fun e2 => br_c (fun e3 => ?_) (fun e3 => ?_)))⟩)
    · exact h1 ((tn_end t i q).mpr (Or.inl e))
    · exact h1 ((tn_end t i q).mpr (Or.inr (Or.inl e2)))
    · exact h1 ((tn_end t i q).mpr (Or.inr (Or.inr e3)))
    · exact h0 (fun g => ((tn_end t i q).mp g).elim e (fun g2 => g2.elim e2 e3))
  | succ d ih =>
    intro i q hi hq h1 h0
    have hin : i < n := by omega
    have hc := (hL i hin).1
    have hs := tn_step t hin q
    have h8 : q = 8 → post 0 := fun e => h0 (by subst e; exact fun g => g)
    have hJ : ∀ q', tn_next q (t i) = q' → wX1_isNumber_6 post 0 h z a n (d + 1) (nI (i + 1)) q' := by
      intro q' e
      subst e
      exact ih (i + 1) _ (by omega) (tn_next9 q (t i)) (fun g => h1 (hs.mpr g)) (fun g => h0 (fun g2 => g (hs.mp g2)))
    rw [wX1_isNumber_6]
    refine sv_length (br_f (nI_ge hin (by omega)) (sv_charAt hn hL hin ?_))
    refine pk_lt (t i) 48 (fun e => ?_) (fun e => pk_lt 57 (t i) (fun e2 => ?_) (fun e2 => ?_))
    · exact tn_37 hc hq (Or.inl ⟨rfl, by omega⟩) h8 hJ
    · exact tn_37 hc hq (Or.inl ⟨rfl, by omega⟩) h8 hJ
    · exact tn_37 hc hq (Or.inr ⟨rfl, by omega⟩) h8 hJ
/-- TextScans.isNumber: the machine's answer -/
theorem tn_isNumber {post : Int32 → Prop} {h z : Int32} {t : Nat → Nat} {a : Nat → Int32} {n : Nat} (hn : n ≤ 65536) (hL : sb_Lat t n a) (h1 : tn_L t n 0 0 → post 1) (h0 : ¬ tn_L t n 0 0 → post 0) :
    wpX1_isNumber post (0, h, z, a, n) :=
  ⟨n + 1, tn_x6 hn hL n 0 0 (by omega) (by decide) h1 h0⟩
end
section
/-! TextScansPlain: digits, exponent, isNumber -/
theorem tn_d9 {post : Int32 → Prop} {h z : Int32} {t : Nat → Nat} {a : Nat → Int32} {n p q : Nat} (hn : n ≤ 65536) (hL : sb_Lat t n a) (hq : q ≤ n) (h1 : tn_S t p q → post 1) (h0 : ¬ tn_S t p q → post 0) :
    ∀ (d k : Nat), k + d = q → p ≤ k → tn_S t p k → wX2_digits_9 post (nI q) 0 h z a n (d + 1) (nI k) := by
  intro d
  induction d with
  | zero =>
    intro k hk hp hS
    obtain rfl : k = q := by omega
    rw [wX2_digits_9]
    exact br_t (nI_le (Nat.le_refl _) (by omega)) (h1 hS)
  | succ d ih =>
    intro k hk hp hS
    have hkn : k < n := by omega
    have hc := (hL k hkn).1
    rw [wX2_digits_9]
    refine br_f (nI_ge (by omega) (by omega)) (sv_charAt hn hL hkn (pk_lt (t k) 48 (fun e => ?_) (fun e => sv_charAt hn hL hkn (pk_le (t k) 57 (fun e2 => nm_r (nI_1 k) ?_) (fun e2 => ?_)))))
    · exact h0 (fun g => absurd (g k hp (by omega)) (by omega))
    · exact ih (k + 1) (by omega) (by omega) (tn_Sr hS ⟨e, e2⟩)
    · exact h0 (fun g => absurd (g k hp (by omega)) (by omega))
theorem tn_digits {post : Int32 → Prop} {h z : Int32} {t : Nat → Nat} {a : Nat → Int32} {n p q : Nat} (hn : n ≤ 65536) (hL : sb_Lat t n a) (hq : q ≤ n) (hp : p ≤ n + 2) (h1 : tn_D t p q → post 1) (h0 : ¬ tn_D t p q → post 0) :
    wpX2_digits post (0, h, z, a, n) (nI p) (nI q) := by
  unfold wpX2_digits
  dsimp only
  refine pk_lt p q (fun e => ⟨q - p + 1, ?_⟩) (fun e => h0 (fun g => absurd g.1 (by omega)))
  exact tn_d9 hn hL hq (fun g => h1 ⟨e, g⟩) (fun g => h0 (fun g2 => g g2.2)) (q - p) p (by omega) (Nat.le_refl p) (tn_S0 t (Nat.le_refl p))
theorem tn_47 {post : Int32 → Prop} {h z : Int32} {t : Nat → Nat} {a : Nat → Int32} {n p : Nat} (hn : n ≤ 65536) (hL : sb_Lat t n a) (hp : p ≤ n + 2) (h1 : tn_D t p n → post 1) (h0 : ¬ tn_D t p n → post 0) :
    wX2_exponent_47 post (nI p) 0 h z a n := by
  unfold wX2_exponent_47
  exact sv_length (tn_digits hn hL (Nat.le_refl n) hp (fun g => ⟨by decide, h1 g⟩) (fun g => ⟨by decide, h0 g⟩))
/-- the sign behind 'e' is there, or isn't -/
theorem tn_5s {t : Nat → Nat} {n p : Nat} (hp : p < n) (h : t p = 45 ∨ t p = 43) : tn_L5 t n p ↔ tn_D t (p + 1) n :=
  ⟨fun g => g.elim (fun g2 => absurd g2 (tn_P0 (by omega))) (fun g2 => tn_Pl_n.mp g2.2.2), fun g => Or.inr ⟨hp, h, tn_Pl_n.mpr g⟩⟩
theorem tn_5d {t : Nat → Nat} {n p : Nat} (h : ¬ (p < n ∧ (t p = 45 ∨ t p = 43))) : tn_L5 t n p ↔ tn_D t p n :=
  ⟨fun g => g.elim (fun g2 => tn_Pl_n.mp g2) (fun g2 => absurd ⟨g2.1, g2.2.1⟩ h), fun g => Or.inl (tn_Pl_n.mpr g)⟩
theorem tn_exponent {post : Int32 → Prop} {h z : Int32} {t : Nat → Nat} {a : Nat → Int32} {n j : Nat} (hn : n ≤ 65536) (hL : sb_Lat t n a) (hj : j < n) (h1 : tn_E t n j → post 1) (h0 : ¬ tn_E t n j → post 0) :
    wpX2_exponent post (0, h, z, a, n) (nI j) := by
  have hc := (hL j hj).1
  unfold wpX2_exponent
  dsimp only
  refine sv_charAt hn hL hj (pk_eq (t j) 101 (fun e => nm_r (nI_1 j) (sv_length ?_)) (fun e => h0 (tn_E0 hj e)))
  have hE := tn_E1 hj e
  have hs : j + 1 < n → (t (j + 1) = 45 ∨ t (j + 1) = 43) → wX2_exponent_44 post (nI (j + 1)) 0 h z a n := by
    intro g g2
    unfold wX2_exponent_44
    exact nm_r (nI_1 (j + 1)) (tn_47 hn hL (by omega) (fun g3 => h1 (hE.mpr ((tn_5s g g2).mpr g3))) (fun g3 => h0 (fun g4 => g3 ((tn_5s g g2).mp (hE.mp g4)))))
  have hd : ¬ (j + 1 < n ∧ (t (j + 1) = 45 ∨ t (j + 1) = 43)) → wX2_exponent_47 post (nI (j + 1)) 0 h z a n := by
    intro g
    exact tn_47 hn hL (by omega) (fun g3 => h1 (hE.mpr ((tn_5d g).mpr g3))) (fun g3 => h0 (fun g4 => g3 ((tn_5d g).mp (hE.mp g4))))
  refine pk_le n (j + 1) (fun g => hd (by omega)) (fun g => ?_)
  have hc2 := (hL (j + 1) g).1
  refine sv_charAt hn hL g (pk_eq (t (j + 1)) 43 (fun e2 => hs g (Or.inr e2)) (fun e2 => sv_charAt hn hL g (pk_eq (t (j + 1)) 45 (fun e3 => hs g (Or.inl e3)) (fun e3 => hd ?_))))
  exact fun g2 => g2.2.elim e3 e2
/-- the tail of a turn: whole is x5, fraction is z0 -/
theorem tn_82 {post J27 J35 : Int32 → Prop} {h z : Int32} {t : Nat → Nat} {a : Nat → Int32} {n j : Nat} {x2 x3 x5 z0 : Int32} (hn : n ≤ 65536) (hL : sb_Lat t n a) (hj : j ≤ n)
    (h1 : x5 ≠ 0 → z0 ≠ 0 → tn_E t n j → post 1) (h0 : ¬ (x5 ≠ 0 ∧ z0 ≠ 0 ∧ tn_E t n j) → J35 (nI (j + 1))) : wX2_isNumber_82 post J27 J35 (nI n) x2 x3 (nI j) x5 z0 0 h z a n := by
  unfold wX2_isNumber_82
  refine br_c (fun e => nm_r (nI_1 j) (h0 (fun g => g.1 e))) (fun e => br_c (fun e2 => nm_r (nI_1 j) (h0 (fun g => g.2.1 e2))) (fun e2 => pk_eq j n (fun e3 => h1 e e2 (Or.inl e3)) (fun e3 => ?_)))
  refine tn_exponent hn hL (by omega) (fun g => br_f (by decide) (h1 e e2 g)) (fun g => br_t rfl (nm_r (nI_1 j) (h0 (fun g2 => g g2.2.2))))
theorem tn_35 {post J27 : Int32 → Prop} {h z : Int32} {t : Nat → Nat} {a : Nat → Int32} {n st i : Nat} (hn : n ≤ 65536) (hL : sb_Lat t n a) (hi : i ≤ n) (hst : st ≤ 1) :
    ∀ (d j : Nat), j + d = n + 1 → i ≤ j → ((∃ j', j ≤ j' ∧ j' ≤ n ∧ tn_ok t n st i j') → post 1) → ((¬ ∃ j', j ≤ j' ∧ j' ≤ n ∧ tn_ok t n st i j') → J27 (nI (i + 1))) →
      wX2_isNumber_35 post J27 (nI n) (nI st) (nI i) 0 h z a n (d + 1) (nI j) := by
  intro d
  induction d with
  | zero =>
    intro j hj hij h1 h0
    rw [wX2_isNumber_35]
    exact br_t (nI_lt (by omega) (by omega)) (nm_r (nI_1 i) (h0 (fun ⟨j', g1, g2, _⟩ => absurd g1 (by omega))))
  | succ d ih =>
    intro j hj hij h1 h0
    have hjn : j ≤ n := by omega
    have hgo : ¬ tn_ok t n st i j → wX2_isNumber_35 post J27 (nI n) (nI st) (nI i) 0 h z a n (d + 1) (nI (j + 1)) := by
      intro g
      refine ih (j + 1) (by omega) (by omega) (fun ⟨j', g1, g2, g3⟩ => h1 ⟨j', by omega, g2, g3⟩) (fun g0 => h0 (fun ⟨j', g1, g2, g3⟩ => ?_))
      by_cases e : j' = j
      · subst e
        exact g g3
      · exact g0 ⟨j', by omega, g2, g3⟩
    have hyes : tn_ok t n st i j → post 1 := fun g => h1 ⟨j, Nat.le_refl j, hjn, g⟩
    have T : ∀ x5 z0 : Int32, ((x5 = 1 ∧ tn_D t st i) ∨ (x5 = 0 ∧ ¬ tn_D t st i)) → ((z0 = 1 ∧ (i = j ∨ (t i = 46 ∧ tn_D t (i + 1) j))) ∨ (z0 = 0 ∧ ¬ (i = j ∨ (t i = 46 ∧ tn_D t (i + 1) j)))) →
        wX2_isNumber_82 post J27 (wX2_isNumber_35 post J27 (nI n) (nI st) (nI i) 0 h z a n (d + 1)) (nI n) (nI st) (nI i) (nI j) x5 z0 0 h z a n := by
      intro x5 z0 hx hz
      refine tn_82 hn hL hjn (fun g1 g2 g3 => ?_) (fun g => hgo (fun k => ?_))
      · rcases hx with hx | hx
        · rcases hz with hz | hz
          · exact hyes ⟨hx.2, hz.2, g3⟩
          · exact absurd hz.1 g2
        · exact absurd hx.1 g1
      · rcases hx with hx | hx
        · rcases hz with hz | hz
          · exact g ⟨by rw [hx.1]; decide, by rw [hz.1]; decide, k.2.2⟩
          · exact hz.2 k.2.1
        · exact hx.2 k.1
    have U : ∀ x5 : Int32, ((x5 = 1 ∧ tn_D t st i) ∨ (x5 = 0 ∧ ¬ tn_D t st i)) →
        ((nI i = nI j → wX2_isNumber_77 post J27 (wX2_isNumber_35 post J27 (nI n) (nI st) (nI i) 0 h z a n (d + 1)) (nI n) (nI st) (nI i) (nI j) x5 0 h z a n) ∧
         (¬ nI i = nI j → wpJ0_charAt_5068e_f8cf6 (fun r_16 => (((r_16 = 46 → (wpX2_digits (fun r_18 => (((r_18 = 0 → (wX2_isNumber_81 post J27 (wX2_isNumber_35 post J27 (nI n) (nI st) (nI i) 0 h z a n (d + 1)) (nI n) (nI st) (nI i) (nI j) x5 0 h z a n)) ∧ (¬ r_18 = 0 → (wX2_isNumber_77 post J27 (wX2_isNumber_35 post J27 (nI n) (nI st) (nI i) 0 h z a n (d + 1)) (nI n) (nI st) (nI i) (nI j) x5 0 h z a n))))) (0, h, z, a, n) (nI i + 1) (nI j))) ∧ (¬ r_16 = 46 → (wX2_isNumber_81 post J27 (wX2_isNumber_35 post J27 (nI n) (nI st) (nI i) 0 h z a n (d + 1)) (nI n) (nI st) (nI i) (nI j) x5 0 h z a n))))) (0, h, z, a, n) (nI i))) := by
      intro x5 hx
      refine pk_eq i j (fun e => T x5 1 hx (Or.inl ⟨rfl, Or.inl e⟩)) (fun e => ?_)
      have hin : i < n := by omega
      have hc := (hL i hin).1
      refine sv_charAt hn hL hin (pk_eq (t i) 46 (fun e2 => ?_) (fun e2 => T x5 0 hx (Or.inr ⟨rfl, fun g => g.elim e (fun g2 => e2 g2.1)⟩)))
      rw [nI_1 i]
      exact tn_digits hn hL hjn (by omega) (fun g => br_f (by decide) (T x5 1 hx (Or.inl ⟨rfl, Or.inr ⟨e2, g⟩⟩))) (fun g => br_t rfl (T x5 0 hx (Or.inr ⟨rfl, fun g2 => g2.elim e (fun g3 => g g3.2)⟩)))
    rw [wX2_isNumber_35]
    refine br_f (nI_nlt hjn (by omega)) ?_
    exact tn_digits hn hL hi (by omega) (fun g => U 1 (Or.inl ⟨rfl, g⟩)) (fun g => U 0 (Or.inr ⟨rfl, g⟩))
theorem tn_27 {post : Int32 → Prop} {h z : Int32} {t : Nat → Nat} {a : Nat → Int32} {n st : Nat} (hn : n ≤ 65536) (hL : sb_Lat t n a) (hst : st ≤ 1) :
    ∀ (d i : Nat), i + d = n + 1 → ((∃ i', i ≤ i' ∧ i' ≤ n ∧ ∃ j, i' ≤ j ∧ j ≤ n ∧ tn_ok t n st i' j) → post 1) → ((¬ ∃ i', i ≤ i' ∧ i' ≤ n ∧ ∃ j, i' ≤ j ∧ j ≤ n ∧ tn_ok t n st i' j) → post 0) →
      wX2_isNumber_27 post (nI n) (nI st) 0 h z a n (d + 1) (nI i) := by
  intro d
  induction d with
  | zero =>
    intro i hi h1 h0
    rw [wX2_isNumber_27]
    exact br_t (nI_lt (by omega) (by omega)) (h0 (fun ⟨i', g1, g2, _⟩ => absurd g1 (by omega)))
  | succ d ih =>
    intro i hi h1 h0
    have hin : i ≤ n := by omega
    rw [wX2_isNumber_27]
    refine br_f (nI_nlt hin (by omega)) ⟨n + 1 - i + 1, tn_35 hn hL hin hst (n + 1 - i) i (by omega) (Nat.le_refl i) (fun g => h1 ⟨i, Nat.le_refl i, hin, g⟩) (fun g => ?_)⟩
    refine ih (i + 1) (by omega) (fun ⟨i', g1, g2, g3⟩ => h1 ⟨i', by omega, g2, g3⟩) (fun g0 => h0 (fun ⟨i', g1, g2, g3⟩ => ?_))
    by_cases e : i' = i
    · subst e
      exact g g3
    · exact g0 ⟨i', by omega, g2, g3⟩
/-- TextScansPlain.isNumber answers as the machine does -/
theorem tn_plain {post : Int32 → Prop} {h z : Int32} {t : Nat → Nat} {a : Nat → Int32} {n : Nat} (h00 : 0 < n) (hn : n ≤ 65536) (hL : sb_Lat t n a) (h1 : tn_L t n 0 0 → post 1) (h0 : ¬ tn_L t n 0 0 → post 0) :
    wpX2_isNumber post (0, h, z, a, n) := by
  have hc := (hL 0 h00).1
  unfold wpX2_isNumber
  dsimp only
  refine sv_length (br_f (nI_nle h00 (by omega)) (sv_charAt (i := 0) hn hL h00 (pk_eq (t 0) 45 (fun e => ⟨n + 1, ?_⟩) (fun e => ⟨n + 2, ?_⟩))))
  · exact tn_27 (st := 1) hn hL (Nat.le_refl 1) n 1 (by omega) (fun g => h1 ((tn_agree1 h00 e).mp g)) (fun g => h0 (fun g2 => g ((tn_agree1 h00 e).mpr g2)))
  · exact tn_27 (st := 0) hn hL (by omega) (n + 1) 0 (by omega) (fun g => h1 ((tn_agree0 e).mp g)) (fun g => h0 (fun g2 => g ((tn_agree0 e).mpr g2)))
end
section
/-! The empty text; the law -/
theorem tn_empty1 {post : Int32 → Prop} {h z : Int32} (hp : post 0) : wpX1_isNumber_2 post (0, h, z) := by
  refine ⟨1, ?_⟩
  rw [wX1_isNumber_2_6]
  exact sv_length0 (br_t (by decide) ⟨by decide, br_f (by decide) (br_f (by decide) (br_f (by decide) hp))⟩)
theorem tn_empty2 {post : Int32 → Prop} {h z : Int32} (hp : post 0) : wpX2_isNumber_2 post (0, h, z) := by
  unfold wpX2_isNumber_2
  dsimp only
  refine sv_length0 (br_t (by decide) ⟨2, ?_⟩)
  rw [wX2_isNumber_2_27]
  refine br_f (by decide) ⟨2, ?_⟩
  rw [wX2_isNumber_2_35]
  refine br_f (by decide) (br_f (by decide) (br_t rfl (br_t rfl (nm_e ?_))))
  rw [wX2_isNumber_2_35]
  refine br_t (by decide) (nm_e ?_)
  rw [wX2_isNumber_2_27]
  exact br_t (by decide) hp
/-- what the table of signs holds -/
def tn_sg (f : Nat → Int32) : Prop := ∀ k, k < 8 → ∃ c, c < 256 ∧ f k = nI c
theorem tn_nar {c : Nat} (h : c < 256) : vp_nar .char (nI c) = nI c := by
  unfold vp_nar
  rw [(pk_charN (q := c) (by omega)).1]
theorem tn_72 {post : Int32 → St0 → Prop} {mc ms : Nat} {x1 x2 : Int32} {n : Nat} {s : Nat → Int32} (hs : tn_sg s) (hn : n ≤ 8) (hmc : mc = 7) (hms : ms = 112) (hp : post 1 ()) :
    ∀ (d i : Nat) (b : Nat → Int32), i + d = n → (∀ j, j < i → ∃ c, c < 256 ∧ b j = nI c) → wL_lawOf_72 post mc ms x1 x2 2 (8 + n) 8 n (d + 1) (nI i) s b := by
  intro d
  induction d with
  | zero =>
    intro i b hi hb
    obtain rfl : i = n := by omega
    rw [wL_lawOf_72]
    refine br_t (nI_le (Nat.le_refl _) (by omega)) ⟨by omega, by omega, 4, 92, by omega, by omega, ?_⟩
    by_cases h0 : i = 0
    · subst h0
      exact sv_new0 (tn_empty1 (tn_empty2 (br_t rfl hp)))
    · have ht : ∀ j, j < i → (b j).toNatClampNeg < 256 ∧ b j = nI (b j).toNatClampNeg := by
        intro j hj
        obtain ⟨c, hc, e⟩ := hb j hj
        rw [e, nI_clamp (by omega)]
        exact ⟨hc, rfl⟩
      refine sv_new (t := fun j => (b j).toNatClampNeg) (by omega) (by omega) ht (by decide) (by omega) (fun a' hL _ => ?_)
      refine tn_isNumber (by omega) hL (fun g => ?_) (fun g => ?_)
      · exact tn_plain (by omega) (by omega) hL (fun _ => br_t rfl hp) (fun g2 => absurd g g2)
      · exact tn_plain (by omega) (by omega) hL (fun g2 => absurd g2 g) (fun _ => br_t rfl hp)
  | succ d ih =>
    intro i b hi hb
    have hput : ∀ c, c < 256 → wL_lawOf_72 post mc ms x1 x2 2 (8 + n) 8 n (d + 1) (nI (i + 1)) s (upd b i (nI c)) := by
      intro c hc
      refine ih (i + 1) _ (by omega) (fun j hj => ?_)
      by_cases e : j = i
      · subst e
        exact ⟨c, hc, pk_us⟩
      · rw [pk_un e]
        exact hb j (by omega)
    rw [wL_lawOf_72]
    refine br_f (nI_ge (by omega) (by omega)) (br_c (fun _ => ⟨vp_in_nI (by omega) (by omega), nm_r (e' := upd b i (nI 53)) (by rw [nI_clamp (by omega)]; rfl) (nm_r (nI_1 i) (hput 53 (by decide)))⟩) (fun _ => ?_))
    obtain ⟨k, hk, e⟩ := pk_andE (x1.toUInt32 >>> ((3 * nI i).toUInt32 &&& Int32.toUInt32 31)).toInt32 (m := 7) 3 (by decide)
    obtain ⟨c, hc, e2⟩ := hs k hk
    rw [e]
    refine ⟨vp_in_nI hk (by decide), vp_in_nI (by omega) (by omega), nm_r (e' := upd b i (nI c)) (by rw [nI_clamp (show i < 2 ^ 31 by omega), nI_clamp (show k < 2 ^ 31 by omega), e2, tn_nar hc]) (nm_r (nI_1 i) (hput c hc))⟩
theorem tn_sgP {f : Nat → Int32} {k c : Nat} (h : ∀ j, j < 8 → j ≠ k → ∃ c, c < 256 ∧ f j = nI c) (hc : c < 256) : tn_sg (upd f k (nI c)) := by
  intro j hj
  by_cases e : j = k
  · subst e
    exact ⟨c, hc, pk_us⟩
  · rw [pk_un e]
    exact h j hj e
theorem tn_lawOf {post : Int32 → St0 → Prop} {p0 p1 p2 : Int32} (hp : post 1 ()) : wpL_lawOf post 7 112 () p0 p1 p2 := by
  have z0 : tn_sg (fun _ => 0) := fun k _ => ⟨0, by decide, rfl⟩
  have up : ∀ (f : Nat → Int32) (k c : Nat), tn_sg f → c < 256 → tn_sg (upd f k (nI c)) := fun f k c hf hc => tn_sgP (fun j hj _ => hf j hj) hc
  have I : ∀ k : Nat, k < 8 → vp_in (nI k) 8 := fun k hk => vp_in_nI hk (by decide)
  refine ⟨by decide, by decide, I 0 (by decide), nm_e ⟨I 1 (by decide), nm_e ⟨I 2 (by decide), nm_e ⟨I 3 (by decide), nm_e ⟨I 4 (by decide), nm_e ⟨I 5 (by decide), nm_e ⟨I 6 (by decide), nm_e ⟨I 7 (by decide), nm_e ?_⟩⟩⟩⟩⟩⟩⟩⟩
  have hs : tn_sg (upd (upd (upd (upd (upd (upd (upd (upd (fun _ => 0) (0 : Int32).toNatClampNeg 48) (1 : Int32).toNatClampNeg 45) (2 : Int32).toNatClampNeg 46) (3 : Int32).toNatClampNeg 101) (4 : Int32).toNatClampNeg 57) (5 : Int32).toNatClampNeg 43) (6 : Int32).toNatClampNeg 49) (7 : Int32).toNatClampNeg 32) :=
    up _ _ 32 (up _ _ 49 (up _ _ 43 (up _ _ 57 (up _ _ 101 (up _ _ 46 (up _ _ 45 (up _ _ 48 z0 (by decide)) (by decide)) (by decide)) (by decide)) (by decide)) (by decide)) (by decide)) (by decide)
  obtain ⟨n, hn, e⟩ := pk_andE p0 (m := 15) 4 (by decide)
  rw [e]
  refine pk_le n 8 (fun g => ⟨nI_pos (by omega), nm_r (nI_clamp (by omega)) ⟨by omega, by decide, by omega, n + 1, ?_⟩⟩) (fun g => ⟨by decide, nm_r (e' := 8) (by decide) ⟨by decide, by decide, by decide, 9, ?_⟩⟩)
  · exact tn_72 hs g rfl rfl hp n 0 _ (by omega) (fun j hj => absurd hj (Nat.not_lt_zero j))
  · exact tn_72 hs (Nat.le_refl 8) rfl rfl hp 8 0 _ (by omega) (fun j hj => absurd hj (Nat.not_lt_zero j))
theorem tn_cell {post : Int32 → Prop} {L : Nat} {xs : Nat → Int32} {k : Nat} (hL : L ≤ 3) (hk : k < 4) (hp : ∀ r, post r) : wpL_cellAt post L xs () (nI k) :=
  pk_le L k (fun _ => hp _) (fun g => ⟨vp_in_nI g (by omega), hp _⟩)
theorem i_vc (xs : Nat → Int32) (L : Nat) (hL : L ≤ 3) : wpL_law (fun r => r = 1) L xs :=
  tn_cell (k := 0) hL (by decide) (fun _ => tn_cell (k := 1) hL (by decide) (fun _ => tn_cell (k := 2) hL (by decide) (fun _ => ⟨7, 112, by decide, by decide, tn_lawOf rfl⟩)))
end
