section
/-! Strings of Latin-1 letters (sv_*: starting texts of kit/laws/STRINGBUILDER-LAWS.1, sv_new turned to a sum of two worlds) -/
theorem sv_length {post : Int32 → Prop} {h z : Int32} {a : Nat → Int32} {n : Nat} (hp : post (nI n)) : wpJ0_length_8abf5_6a20e post (0, h, z, a, n) :=
  ⟨by decide, Eq.mpr (congrArg post (sb_shr0 (Int32.ofNat n))) hp⟩
theorem sv_check {post : Unit → Prop} {i n : Nat} (hi : i < n) (hn : n < 2 ^ 31) (hp : post ()) : wpJ0_checkIndex_df160_48e5c post () (nI i) (nI n) :=
  ⟨br_f (nI_pos (by omega)) (br_t (nI_lt hi hn) hp), br_f (nI_pos (by omega)) (br_t (nI_lt hi hn) hp)⟩
/-- String.charAt of a Latin-1 text -/
theorem sv_charAt {post : Int32 → Prop} {h z : Int32} {t : Nat → Nat} {a : Nat → Int32} {n i : Nat} (hn : n ≤ 65536) (hL : sb_Lat t n a) (hi : i < n) (hp : post (nI (t i))) : wpJ0_charAt_5068e_f8cf6 post (0, h, z, a, n) (nI i) := by
  obtain ⟨h1, h2⟩ := hL i hi
  obtain ⟨b1, b2, -⟩ := sb_byte _ h1
  have hc := (pk_charN (q := t i) (by omega)).1
  refine br_t rfl (br_f (by decide) ?_)
  rw [wpJ1_charAt_3b067_49ada]
  refine sv_check hi (by omega) ⟨vp_in_nI hi (by omega), ?_⟩
  rw [nI_clamp (by omega), h2, b1, b2]
  exact ⟨hc, hc, hp⟩
theorem sv_compress {P : Int32 → StJbedf7 → Prop} {t : Nat → Nat} {b : Nat → Int32} {n : Nat} (hn : n ≤ 65536) (ht : ∀ j, j < n → t j < 256 ∧ b j = nI (t j)) (hP : ∀ a', sb_Lat t n a' → sb_Fit a' → P (nI n) (b, n, a', n)) :
    ∀ (d k : Nat) (a : Nat → Int32), k + d = n → sb_Lat t k a → sb_Fit a → wJ2_compress_fe38e_1fd7f_3 P (nI n) n n (d + 1) (nI k) (nI k) (nI k) b a := by
  intro d
  induction d with
  | zero =>
    intro k a hk hL hf
    rw [wJ2_compress_fe38e_1fd7f_3]
    refine br_t ((nI_leI (by omega) (by omega)).mpr (by omega)) (hP a ?_ hf)
    rw [← show k = n by omega]
    exact hL
  | succ d ih =>
    intro k a hk hL hf
    obtain ⟨b1, b2⟩ := ht k (by omega)
    obtain ⟨-, -, b3⟩ := sb_byte _ b1
    rw [wJ2_compress_fe38e_1fd7f_3]
    refine br_f (nI_ge (by omega) (by omega)) ⟨vp_in_nI (by omega) (by omega), nm_r (e' := nI (t k)) (by rw [nI_clamp (by omega), b2]) (br_t b3 ⟨vp_in_nI (by omega) (by omega), ?_⟩)⟩
    refine nm_r (e' := upd a k (sb_b (t k))) (by rw [nI_clamp (by omega), pk_vb]; rfl) (nm_r (nI_1 k) (nm_r (nI_1 k) (nm_r (nI_1 k) ?_)))
    refine ih (k + 1) _ (by omega) (fun j hj => ?_) (sb_fitU hf (sb_fitB _))
    by_cases e : j = k
    · subst e
      exact ⟨b1, pk_us⟩
    · rw [pk_un e]
      exact hL j (by omega)
/-- new String(char[]) of n Latin-1 letters, n not 0 -/
theorem sv_new {post : (StJ0f59a ⊕ StJ64b40) → Prop} {mc ms : Nat} {c h z : Int32} {t : Nat → Nat} {b : Nat → Int32} {n : Nat} (h0 : 0 < n) (hn : n ≤ 65536) (ht : ∀ j, j < n → t j < 256 ∧ b j = nI (t j)) (hmc : 1 ≤ mc) (hms : n ≤ ms)
    (hp : ∀ a', sb_Lat t n a' → sb_Fit a' → post (.inl (0, h, z, a', n, b, n))) : wpJ0_init_905df_fc072 post mc ms (c, h, z, b, n) := by
  refine ⟨mc, ms, by omega, by omega, br_f (nI_ne0 h0 (by omega)) ⟨mc, ms, by omega, by omega, nI_pos (by omega), nm_r (nI_clamp (by omega)) ⟨by omega, hmc, by omega, n + 1, ?_⟩⟩⟩
  refine sv_compress hn ht (fun a' hL hf => ?_) n 0 _ (by omega) (fun j hj => absurd hj (Nat.not_lt_zero j)) sb_fit0
  refine br_t rfl ⟨pk_nb _, ?_⟩
  have e1 : (((Int32.ofNat n - Int32.ofNat n).toUInt32 >>> ((31 : Int32).toUInt32 &&& Int32.toUInt32 31)).toInt32).toInt8.toInt32 = 0 := by
    rw [Int32.sub_self]
    decide
  rw [e1]
  exact ⟨by decide, by decide, hp a' hL hf⟩
/-- new String(char[]) of no letters: the bytes of the constant "" -/
theorem sv_new0 {post : (StJ0f59a ⊕ StJ64b40) → Prop} {mc ms : Nat} {c h z : Int32} {b : Nat → Int32} (hp : post (.inr (0, h, z, b, 0))) : wpJ0_init_905df_fc072 post mc ms (c, h, z, b, 0) :=
  ⟨mc, ms, by omega, by omega, br_t rfl hp⟩
/-- every place holds a Latin-1 letter -/
def nr_C (a : Nat → Int32) : Prop := ∀ j, ∃ t : Nat, t < 256 ∧ a j = nI t
/-- new String(char[]) of at most three Latin-1 letters -/
theorem nr_new {post : (StJ0f59a ⊕ StJ64b40) → Prop} {b : Nat → Int32} {n : Nat} (hn : n ≤ 3) (hb : nr_C b)
    (H1 : ∀ (t : Nat → Nat) (a' : Nat → Int32), 0 < n → sb_Lat t n a' → post (.inl (0, 0, 0, a', n, b, n))) (H0 : post (.inr (0, 0, 0, b, 0))) : wpJ0_init_905df_fc072 post 1 3 (0, 0, 0, b, n) := by
  by_cases h : n = 0
  · subst h
    exact sv_new0 H0
  · exact sv_new (t := fun j => (hb j).choose) (by omega) (by omega) (fun j _ => (hb j).choose_spec) (by omega) hn (fun a' hL _ => H1 _ a' (by omega) hL)
/-- String.equals of two Strings of bytes -/
theorem nr_equals {post : Int32 → Prop} {h z h' z' : Int32} {a a' : Nat → Int32} {n n' : Nat} (hn : n ≤ 65536) (hn' : n' ≤ 65536)
    (H1 : n = n' ∧ (∀ j, j < n → a j = a' j) → post 1) (H0 : ¬ (n = n' ∧ (∀ j, j < n → a j = a' j)) → post 0) : wpJ0_equals_9ea2d_d3b40 post (0, h, z, a, n, 0, h', z', a', n') := by
  have L : ∀ (P : Int32 → Prop), ((∀ j, j < n → a j = a' j) → P 1) → (¬ (∀ j, j < n → a j = a' j) → P 0) → ∀ (d k : Nat), k + d = n → (∀ j, j < k → a j = a' j) → wJ1_equals_b5fdf_9f0d2_9 P a n a' n (d + 1) (nI k) := by
    intro P h1 h0 d
    induction d with
    | zero =>
      intro k hk hj
      rw [wJ1_equals_b5fdf_9f0d2_9]
      exact br_t ((nI_leI (by omega) (by omega)).mpr (by omega)) (h1 (fun j z => hj j (by omega)))
    | succ d ih =>
      intro k hk hj
      rw [wJ1_equals_b5fdf_9f0d2_9]
      refine br_f (nI_ge (by omega) (by omega)) ⟨vp_in_nI (by omega) (by omega), vp_in_nI (by omega) (by omega), ?_⟩
      rw [nI_clamp (by omega)]
      exact br_c (fun e => nm_r (nI_1 k) (ih (k + 1) (by omega) (lt_s hj e))) (fun e => h0 (fun g => e (g k (by omega))))
  refine br_t rfl (pk_eq n n' (fun e => ?_) (fun e => br_t rfl (H0 (fun g => e g.1))))
  subst e
  exact ⟨n + 1, L _ (fun g => br_f (by decide) (H1 ⟨rfl, g⟩)) (fun g => br_t rfl (H0 (fun q => g q.2))) n 0 (by omega) (fun j hj => absurd hj (Nat.not_lt_zero j))⟩
/-- the length of the constant "" -/
theorem nr_len0 {post : Int32 → Prop} {h z : Int32} (hp : post (nI 0)) : wpJ0_length_8abf5_0516f post (0, h, z) :=
  ⟨by decide, Eq.mpr (congrArg post (by decide)) hp⟩
/-- a letter of a long under a mask, as a char -/
theorem nr_v (y : Int64) : ∃ t : Nat, t < 256 ∧ (((y &&& 255).toInt32).toUInt32 % 65536).toInt32 = nI t := by
  refine ⟨(y &&& 255).toInt32.toBitVec.toNat % 65536, ?_, pk_char _⟩
  have e : (y &&& 255).toInt32.toBitVec.toNat = y.toBitVec.toNat % 2 ^ 8 % 2 ^ 32 := by
    rw [Int64.toBitVec_toInt32, BitVec.signExtend_eq_setWidth_of_le _ (by decide), BitVec.toNat_setWidth, Int64.toBitVec_and, BitVec.toNat_and]
    rw [show (255 : Int64).toBitVec.toNat = 2 ^ 8 - 1 by decide, Nat.and_two_pow_sub_one_eq_mod]
  omega
theorem nr_nc : ∀ t, t < 256 → vp_nar .char (nI t) = nI t := by decide +kernel
theorem nr_Cu {a : Nat → Int32} {k : Nat} {x : Int32} (h : nr_C a) (hx : ∃ t : Nat, t < 256 ∧ x = nI t) : nr_C (upd a k x) := by
  intro j
  by_cases e : j = k
  · subst e
    rw [pk_us]
    exact hx
  · rw [pk_un e]
    exact h j
theorem nr_C0 : nr_C (fun _ => 0) := fun _ => ⟨0, by omega, rfl⟩
theorem nr_Cn {a : Nat → Int32} (h : nr_C a) (k : Nat) : ∃ t : Nat, t < 256 ∧ vp_nar .char (a k) = nI t := by
  obtain ⟨t, ht, e⟩ := h k
  exact ⟨t, ht, by rw [e]; exact nr_nc t ht⟩
/-- two Latin-1 texts in bytes: the same bytes, the same letters -/
theorem nr_lat {t t' : Nat → Nat} {n : Nat} {a a' : Nat → Int32} (h : sb_Lat t n a) (h' : sb_Lat t' n a') : (∀ j, j < n → a j = a' j) ↔ (∀ j, j < n → t j = t' j) := by
  constructor
  · intro e j hj
    obtain ⟨l1, e1⟩ := h j hj
    obtain ⟨l2, e2⟩ := h' j hj
    have e3 := e j hj
    rw [e1, e2] at e3
    have e4 : sb_b (t j) &&& 255 = sb_b (t' j) &&& 255 := by rw [e3]
    rw [(sb_byte _ l1).1, (sb_byte _ l2).1] at e4
    exact (nI_eq (by omega) (by omega)).mp e4
  · intro e j hj
    rw [(h j hj).2, (h' j hj).2, e j hj]
end
section
/-! the twelve pairs of finders: the class and its twin answer alike -/
/-- the twin's count of equal letters, two texts of one length -/
theorem nr_l1 {post : Int32 → Prop} {h z h' z' : Int32} {t t' : Nat → Nat} {a a' : Nat → Int32} {n : Nat} (hn : n ≤ 65536) (hL : sb_Lat t n a) (hL' : sb_Lat t' n a')
    (H1 : (∀ j, j < n → t j = t' j) → post 1) (H0 : ¬ (∀ j, j < n → t j = t' j) → post 0) :
    ∀ (d k c : Nat), k + d = n → c ≤ k → (c = k ↔ ∀ j, j < k → t j = t' j) → wX7_sameName_43 post 0 h z a n 0 h' z' a' n (d + 1) (nI c) (nI k) := by
  intro d
  induction d with
  | zero =>
    intro k c hk hc hi
    have ek : k = n := by omega
    subst ek
    rw [wX7_sameName_43]
    exact sv_length (br_t ((nI_leI (by omega) (by omega)).mpr (by omega)) (sv_length (pk_eq c k (fun e => H1 (hi.mp e)) (fun e => H0 (fun g => e (hi.mpr g))))))
  | succ d ih =>
    intro k c hk hc hi
    have l1 := (hL k (by omega)).1
    have l2 := (hL' k (by omega)).1
    rw [wX7_sameName_43]
    refine sv_length (br_f (nI_ge (by omega) (by omega)) (sv_charAt hn hL (by omega) (sv_charAt hn hL' (by omega) (pk_eq (t k) (t' k) (fun e => nm_r (nI_1 c) (nm_r (nI_1 k) (ih (k + 1) (c + 1) (by omega) (by omega) ?_))) (fun e => nm_r (nI_1 k) (ih (k + 1) c (by omega) (by omega) ?_))))))
    · constructor
      · intro g
        exact lt_s (hi.mp (by omega)) e
      · intro g
        have := hi.mpr (fun j hj => g j (by omega))
        omega
    · constructor
      · intro g
        omega
      · intro g
        exact absurd (g k (by omega)) e
/-- the same, one object twice -/
theorem nr_l2 {post : Int32 → Prop} {h z : Int32} {t : Nat → Nat} {a : Nat → Int32} {n : Nat} (hn : n ≤ 65536) (hL : sb_Lat t n a) (H1 : post 1) :
    ∀ (d k : Nat), k + d = n → wX7_sameName_2_43 post 0 h z a n (d + 1) (nI k) (nI k) := by
  intro d
  induction d with
  | zero =>
    intro k hk
    have ek : k = n := by omega
    subst ek
    rw [wX7_sameName_2_43]
    exact sv_length (br_t ((nI_leI (by omega) (by omega)).mpr (by omega)) (sv_length (br_t rfl H1)))
  | succ d ih =>
    intro k hk
    rw [wX7_sameName_2_43]
    exact sv_length (br_f (nI_ge (by omega) (by omega)) (sv_charAt hn hL (by omega) (sv_charAt hn hL (by omega) (br_t rfl (nm_r (nI_1 k) (nm_r (nI_1 k) (ih (k + 1) (by omega))))))))
/-- the twin over two texts -/
theorem nr_x7 {post : Int32 → Prop} {h z h' z' : Int32} {t t' : Nat → Nat} {a a' : Nat → Int32} {n n' : Nat} (hn : n ≤ 65536) (hn' : n' ≤ 65536) (hL : sb_Lat t n a) (hL' : sb_Lat t' n' a')
    (H1 : n = n' ∧ (∀ j, j < n → a j = a' j) → post 1) (H0 : ¬ (n = n' ∧ (∀ j, j < n → a j = a' j)) → post 0) : wpX7_sameName post (0, h, z, a, n, 0, h', z', a', n') := by
  dsimp only [wpX7_sameName, wpX3_name]
  refine sv_length (sv_length (pk_eq n n' (fun e => ?_) (fun e => H0 (fun g => e g.1))))
  subst e
  have q := nr_lat hL hL'
  exact ⟨n + 1, nr_l1 hn hL hL' (fun g => H1 ⟨rfl, q.mpr g⟩) (fun g => H0 (fun w => g (q.mp w.2))) n 0 0 (by omega) (by omega) ⟨fun _ => lt_0, fun _ => rfl⟩⟩
/-- the twin over one object twice -/
theorem nr_x7_2 {post : Int32 → Prop} {h z : Int32} {t : Nat → Nat} {a : Nat → Int32} {n : Nat} (hn : n ≤ 65536) (hL : sb_Lat t n a) (H1 : post 1) : wpX7_sameName_2 post (0, h, z, a, n) := by
  dsimp only [wpX7_sameName_2, wpX3_name]
  exact sv_length (sv_length (br_t rfl ⟨n + 1, nr_l2 hn hL H1 n 0 (by omega)⟩))
/-- the twin, a text of letters and the empty one -/
theorem nr_x7_3 {post : Int32 → Prop} {h z h' z' : Int32} {a : Nat → Int32} {n : Nat} (h0 : 0 < n) (hn : n ≤ 65536) (H0 : post 0) : wpX7_sameName_3 post (0, h, z, a, n, 0, h', z') := by
  dsimp only [wpX7_sameName_3, wpX3_name, wpX3_name_2]
  exact sv_length (nr_len0 (pk_eq n 0 (fun e => absurd e (by omega)) (fun _ => H0)))
theorem nr_x7_5 {post : Int32 → Prop} {h z h' z' : Int32} {a : Nat → Int32} {n : Nat} (h0 : 0 < n) (hn : n ≤ 65536) (H0 : post 0) : wpX7_sameName_5 post (0, h, z, 0, h', z', a, n) := by
  dsimp only [wpX7_sameName_5, wpX3_name, wpX3_name_2]
  exact nr_len0 (sv_length (pk_eq 0 n (fun e => absurd e (by omega)) (fun _ => H0)))
/-- the twin over the empty text, one object twice, and two objects -/
theorem nr_x7_6 {post : Int32 → Prop} {h z : Int32} (H1 : post 1) : wpX7_sameName_6 post (0, h, z) := by
  dsimp only [wpX7_sameName_6, wpX3_name_2]
  refine nr_len0 (nr_len0 (br_t rfl ⟨1, ?_⟩))
  rw [wX7_sameName_6_43]
  exact nr_len0 (br_t (by decide) (nr_len0 (br_t rfl H1)))
theorem nr_x7_7 {post : Int32 → Prop} {h z h' z' : Int32} (H1 : post 1) : wpX7_sameName_7 post (0, h, z, 0, h', z') := by
  dsimp only [wpX7_sameName_7, wpX3_name_2]
  refine nr_len0 (nr_len0 (br_t rfl ⟨1, ?_⟩))
  rw [wX7_sameName_7_43]
  exact nr_len0 (br_t (by decide) (nr_len0 (br_t rfl H1)))
section
variable {post : Int32 → St0 → Prop} {mc ms kc ks : Nat} {h z h' z' : Int32} {t t' : Nat → Nat} {a a' : Nat → Int32} {n n' : Nat}
theorem nr_p1 (hp : post 1 ()) (hn : n ≤ 3) (hn' : n' ≤ 3) (hL : sb_Lat t n a) (hL' : sb_Lat t' n' a') : wL_lawOf_197 post mc ms kc ks 0 h z a n 0 h' z' a' n' := by
  refine nr_equals (by omega) (by omega) (fun g => ?_) (fun g => ?_)
  · exact br_f (by decide) (nr_x7 (by omega) (by omega) hL hL' (fun _ => br_t rfl hp) (fun g' => absurd g g'))
  · exact br_t rfl (nr_x7 (by omega) (by omega) hL hL' (fun g' => absurd g' g) (fun _ => br_t rfl hp))
theorem nr_p2 (hp : post 1 ()) (hn : n ≤ 3) (hL : sb_Lat t n a) : wL_lawOf_197_2 post mc ms kc ks 0 h z a n :=
  br_f (by decide) (nr_x7_2 (by omega) hL (br_t rfl hp))
theorem nr_p3 (hp : post 1 ()) (h0 : 0 < n) (hn : n ≤ 3) : wL_lawOf_197_3 post mc ms kc ks 0 h z a n 0 h' z' :=
  br_t rfl ⟨by decide, pk_eq n 0 (fun e => absurd e (by omega)) (fun _ => br_t rfl (br_t rfl (nr_x7_3 h0 (by omega) (br_t rfl hp))))⟩
theorem nr_p4 (hp : post 1 ()) : wL_lawOf_197_4 post mc ms kc ks 0 h z a n := br_t rfl (br_t rfl hp)
theorem nr_p5 (hp : post 1 ()) (h0 : 0 < n) (hn : n ≤ 3) : wL_lawOf_197_5 post mc ms kc ks 0 h z 0 h' z' a n :=
  br_t rfl ⟨by decide, pk_eq 0 n (fun e => absurd e (by omega)) (fun _ => br_t rfl (br_t rfl (nr_x7_5 h0 (by omega) (br_t rfl hp))))⟩
theorem nr_p6 (hp : post 1 ()) : wL_lawOf_197_6 post mc ms kc ks 0 h z :=
  br_f (by decide) (nr_x7_6 (br_t rfl hp))
theorem nr_p7 (hp : post 1 ()) : wL_lawOf_197_7 post mc ms kc ks 0 h z 0 h' z' :=
  br_t rfl ⟨by decide, by decide, br_t rfl ⟨1, by decide, br_t (by decide) (br_f (by decide) (br_f (by decide) (nr_x7_7 (br_t rfl hp))))⟩⟩
theorem nr_p8 (hp : post 1 ()) : wL_lawOf_197_8 post mc ms kc ks 0 h z := br_t rfl (br_t rfl hp)
theorem nr_p9 (hp : post 1 ()) : wL_lawOf_197_9 post mc ms kc ks 0 h z a n := br_t rfl hp
theorem nr_p10 (hp : post 1 ()) : wL_lawOf_197_10 post mc ms kc ks := br_t rfl hp
theorem nr_p11 (hp : post 1 ()) : wL_lawOf_197_11 post mc ms kc ks 0 h z := br_t rfl hp
theorem nr_p12 (hp : post 1 ()) : wL_lawOf_197_12 post mc ms kc ks := br_t rfl hp
end
end
section
/-! the law: the finders are made, the loops fill the letters -/
section
variable {post : Int32 → St0 → Prop} {mc ms kc ks : Nat} {x0 : Int32} {h z h' z' : Int32} {t t' : Nat → Nat} {a a' b : Nat → Int32} {n n' m : Nat}
theorem nr_q1 (hp : post 1 ()) (hn : n ≤ 3) (hn' : n' ≤ 3) (hL : sb_Lat t n a) (hL' : sb_Lat t' n' a') : wL_lawOf_179 post mc ms x0 kc ks 0 h z a n 0 h' z' a' n' :=
  br_c (fun _ => nr_p2 hp hn hL) (fun _ => nr_p1 hp hn hn' hL hL')
theorem nr_q2 (hp : post 1 ()) (h0 : 0 < n) (hn : n ≤ 3) (hL : sb_Lat t n a) : wL_lawOf_179_2 post mc ms x0 kc ks 0 h z a n 0 h' z' :=
  br_c (fun _ => nr_p2 hp hn hL) (fun _ => nr_p3 hp h0 hn)
theorem nr_q3 (hp : post 1 ()) (hn : n ≤ 3) (hL : sb_Lat t n a) : wL_lawOf_179_3 post mc ms x0 kc ks 0 h z a n :=
  br_c (fun _ => nr_p2 hp hn hL) (fun _ => nr_p4 hp)
theorem nr_q4 (hp : post 1 ()) (h0 : 0 < n) (hn : n ≤ 3) : wL_lawOf_179_4 post mc ms x0 kc ks 0 h z 0 h' z' a n :=
  br_c (fun _ => nr_p6 hp) (fun _ => nr_p5 hp h0 hn)
theorem nr_q5 (hp : post 1 ()) : wL_lawOf_179_5 post mc ms x0 kc ks 0 h z 0 h' z' :=
  br_c (fun _ => nr_p6 hp) (fun _ => nr_p7 hp)
theorem nr_q6 (hp : post 1 ()) : wL_lawOf_179_6 post mc ms x0 kc ks 0 h z :=
  br_c (fun _ => nr_p6 hp) (fun _ => nr_p8 hp)
theorem nr_q7 (hp : post 1 ()) : wL_lawOf_179_7 post mc ms x0 kc ks 0 h z a n :=
  br_c (fun _ => nr_p10 hp) (fun _ => nr_p9 hp)
theorem nr_q8 (hp : post 1 ()) : wL_lawOf_179_8 post mc ms x0 kc ks 0 h z :=
  br_c (fun _ => nr_p10 hp) (fun _ => nr_p11 hp)
theorem nr_q9 (hp : post 1 ()) : wL_lawOf_179_9 post mc ms x0 kc ks :=
  br_c (fun _ => nr_p10 hp) (fun _ => nr_p12 hp)
/-- the first finder has a text of letters -/
theorem nr_r1 (hp : post 1 ()) (hk : kc + 3 ≤ mc) (hs : ks + 8 ≤ ms) (hm : m ≤ 3) (hb : nr_C b) (h0 : 0 < n) (hn : n ≤ 3) (hL : sb_Lat t n a) : wL_lawOf_148 post mc ms x0 kc ks b m 0 h z a n :=
  ⟨by omega, by omega, br_c (fun _ => nr_q3 hp hn hL) (fun _ => ⟨by omega, by omega, 1, 3, by omega, by omega, nr_new hm hb (fun _ _ _ hL' => nr_q1 hp hn hm hL hL') (nr_q2 hp h0 hn hL)⟩)⟩
/-- the first finder has the empty text -/
theorem nr_r2 (hp : post 1 ()) (hk : kc + 3 ≤ mc) (hs : ks + 8 ≤ ms) (hm : m ≤ 3) (hb : nr_C b) : wL_lawOf_148_2 post mc ms x0 kc ks b m 0 h z :=
  ⟨by omega, by omega, br_c (fun _ => nr_q6 hp) (fun _ => ⟨by omega, by omega, 1, 3, by omega, by omega, nr_new hm hb (fun _ _ h0 _ => nr_q4 hp h0 hm) (nr_q5 hp)⟩)⟩
/-- the first finder has no text -/
theorem nr_r3 (hp : post 1 ()) (hk : kc + 3 ≤ mc) (hs : ks + 8 ≤ ms) (hm : m ≤ 3) (hb : nr_C b) : wL_lawOf_148_3 post mc ms x0 kc ks b m :=
  ⟨by omega, by omega, br_c (fun _ => nr_q9 hp) (fun _ => ⟨by omega, by omega, 1, 3, by omega, by omega, nr_new hm hb (fun _ _ _ _ => nr_q7 hp) (nr_q8 hp)⟩)⟩
/-- a letter of the long is stored in ys -/
theorem nr_100 {J : Int32 → (Nat → Int32) → (Nat → Int32) → Prop} {x1 : Int64} {i : Nat} (hi : i < m) (hm : m ≤ 3) (hb : nr_C b) (hJ : ∀ s, nr_C s → J (nI (i + 1)) a s) : wL_lawOf_100 post mc ms J x0 x1 (nI i) (nI i) kc ks a n b m :=
  ⟨pk_in i m hi, nm_e (nm_r (nI_1 i) (hJ _ (nr_Cu hb (nr_v _))))⟩
/-- the loop over ys, and what is behind it -/
theorem nr_63 {x1 : Int64} (hp : post 1 ()) (hk : kc + 6 ≤ mc) (hs : ks + 16 ≤ ms) (hn : n ≤ 3) (hm : m ≤ 3) (ha : nr_C a) (hb : nr_C b) : ∃ f, wL_lawOf_63 post mc ms x0 x1 kc ks n m f 0 a b :=
  pk_loop (fun f i s => wL_lawOf_63 post mc ms x0 x1 kc ks n m f (nI i) a s) (fun _ s => nr_C s) m 0 b (by omega) hb
    (fun f s hc => pk_le m m (fun _ => ⟨by omega, by omega, br_c (fun _ => nr_r3 hp (by omega) (by omega) hm hc) (fun _ => ⟨by omega, by omega, 1, 3, by omega, by omega, nr_new hn ha (fun _ _ h0 hL => nr_r1 hp (by omega) (by omega) hm hc h0 hn hL) (nr_r2 hp (by omega) (by omega) hm hc)⟩)⟩) (fun g => absurd g (by omega)))
    (fun f i s hi hc hw => pk_le m i (fun g => absurd g (by omega)) (fun _ => br_c (fun _ => pk_le n i (fun _ => nr_100 hi hm hc hw) (fun g => ⟨pk_in i n g, pk_in i m hi, nm_e (nm_r (nI_1 i) (hw _ (nr_Cu hc (nr_Cn ha _))))⟩)) (fun _ => nr_100 hi hm hc hw)))
/-- the loop over xs, and what is behind it -/
theorem nr_30 {x1 : Int64} (hp : post 1 ()) (hk : kc + 6 ≤ mc) (hs : ks + 16 ≤ ms) (hn : n ≤ 3) (hm : m ≤ 3) (ha : nr_C a) (hb : nr_C b) : ∃ f, wL_lawOf_30 post mc ms x0 x1 kc ks n m f 0 a b :=
  pk_loop (fun f i s => wL_lawOf_30 post mc ms x0 x1 kc ks n m f (nI i) s b) (fun _ s => nr_C s) n 0 a (by omega) ha
    (fun f s hc => pk_le n n (fun _ => nr_63 hp hk hs hn hm hc hb) (fun g => absurd g (by omega)))
    (fun f i s hi hc hw => pk_le n i (fun g => absurd g (by omega)) (fun _ => ⟨pk_in i n hi, nm_e (nm_r (nI_1 i) (hw _ (nr_Cu hc (nr_v _))))⟩))
end
theorem nr_lawOf {post : Int32 → St0 → Prop} (hp : post 1 ()) (p0 : Int32) (p1 : Int64) : wpL_lawOf post 11 176 () p0 p1 := by
  obtain ⟨n, hn, en⟩ := pk_andE p0 (m := 3) 2 (by decide)
  obtain ⟨k, hk, ek⟩ := pk_andE ((p0.toUInt32 >>> ((3 : Int32).toUInt32 &&& Int32.toUInt32 31)).toInt32) (m := 3) 2 (by decide)
  unfold wpL_lawOf
  rw [en, ek]
  refine ⟨nI_pos (by omega), nm_r (nI_clamp (by omega)) ⟨by omega, by omega, by omega, br_c (fun _ => ?_) (fun _ => ?_)⟩⟩
  · exact ⟨nI_pos (by omega), nm_r (nI_clamp (by omega)) ⟨by omega, by omega, by omega, nr_30 hp (by omega) (by omega) (by omega) (by omega) nr_C0 nr_C0⟩⟩
  · exact ⟨nI_pos (by omega), nm_r (nI_clamp (by omega)) ⟨by omega, by omega, by omega, nr_30 hp (by omega) (by omega) (by omega) (by omega) nr_C0 nr_C0⟩⟩
theorem nr_cell {post : Int32 → Prop} {L : Nat} {xs : Nat → Int32} (hL : L ≤ 3) (k : Nat) (hk : k < 3) (H : ∀ r, post r) : wpL_cellAt post L xs () (nI k) :=
  pk_le L k (fun _ => H 0) (fun g => ⟨pk_in k L g, H _⟩)
theorem i_vc (xs : Nat → Int32) (L : Nat) (hL : L ≤ 3) : wpL_law (fun r => r = 1) L xs :=
  nr_cell hL 0 (by omega) (fun _ => nr_cell hL 1 (by omega) (fun _ => nr_cell hL 2 (by omega) (fun _ => ⟨11, 176, by omega, by omega, nr_lawOf rfl _ _⟩)))
end
