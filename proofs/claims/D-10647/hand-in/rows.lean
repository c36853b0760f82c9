section
/-! ===== LateJobAdmit: plain facts ===== -/
theorem lj_s : ∀ n, n < 32 → ((nI n &&& 31).toBitVec.smod 32).toNat = n := by decide +kernel
theorem lj_bit {k j : Nat} (hk : k < 2 ^ 31) (hj : j < 32) : ((nI k >>> (nI j &&& 31)) &&& 1) = nI (k / 2 ^ j % 2) := by
  rw [pk_shrN hk (nI j &&& 31) j (lj_s j hj)]
  exact pk_andN (m := 1) (Nat.lt_of_le_of_lt (Nat.div_le_self _ _) (by omega)) 1 (by decide)
theorem lj_b1 : ∀ j, j < 11 → j ≠ 0 → (((1 : Int32) >>> (nI j &&& 31)) &&& 1) = 0 := by decide +kernel
theorem lj_b0 : ¬ (((1 : Int32) >>> (nI 0 &&& 31)) &&& 1) = 0 := by decide +kernel
theorem lj_b00 : (((0 : Int32) >>> ((0 : Int32) &&& 31)) &&& 1) = 0 := by decide +kernel
theorem lj_b10 : ¬ (((1 : Int32) >>> ((0 : Int32) &&& 31)) &&& 1) = 0 := by decide +kernel
theorem lj_byte : ∀ j, j < 51 → (nI j).toInt8.toInt32 = nI j := by decide +kernel
theorem lj_short : ∀ j, j < 201 → (nI j).toInt16.toInt32 = nI j := by decide +kernel
theorem lj_c0 : (0 : Int32).toNatClampNeg = 0 := by decide
theorem lj_1n0 : ¬ (1 : Int32) = 0 := by decide
theorem lj_one : ∀ j, j < 10 → 1 / 2 ^ j % 2 = 1 → j = 0 := by decide +kernel
/-- a set without the bits 1 .. 9 is 0 or 1 -/
theorem lj_hi {k : Nat} (hk : k < 1024) (h : ∀ j, j < 10 → j ≠ 0 → ¬ k / 2 ^ j % 2 = 1) : k < 2 := by
  have h1 : ¬ k / 2 % 2 = 1 := h 1 (by omega) (by omega)
  have h2 : ¬ k / 4 % 2 = 1 := h 2 (by omega) (by omega)
  have h3 : ¬ k / 8 % 2 = 1 := h 3 (by omega) (by omega)
  have h4 : ¬ k / 16 % 2 = 1 := h 4 (by omega) (by omega)
  have h5 : ¬ k / 32 % 2 = 1 := h 5 (by omega) (by omega)
  have h6 : ¬ k / 64 % 2 = 1 := h 6 (by omega) (by omega)
  have h7 : ¬ k / 128 % 2 = 1 := h 7 (by omega) (by omega)
  have h8 : ¬ k / 256 % 2 = 1 := h 8 (by omega) (by omega)
  have h9 : ¬ k / 512 % 2 = 1 := h 9 (by omega) (by omega)
  omega
theorem lj_bool {f : Int32} (h : f = 0 ∨ f = 1) : vp_nar .boolean f = f := by
  rcases h with rfl | rfl
  · rfl
  · rfl
theorem lj_nb0 : narrow .boolean (.int 0) = .int 0 := by rfl
theorem lj_nb1 : narrow .boolean (.int 1) = .int 1 := by rfl
/-- what the class calls a job -/
def lj_J (l d : Int32) : Prop := ¬ l < 1 ∧ ¬ 50 < l ∧ ¬ d < 0 ∧ ¬ 200 < d
theorem lj_Jl {l d : Int32} (h : lj_J l d) : l.toInt8.toInt32 = l ∧ ¬ l = 0 := by
  obtain ⟨h1, h2, _, _⟩ := h
  have h0 : ¬ l < 0 := fun z => h1 (Int32.lt_trans z (by decide))
  obtain ⟨j, hj, rfl⟩ := nI_of2 (M := 50) (n := 50) (by decide) h0 (Int32.not_lt.mp h2)
  refine ⟨lj_byte j (by omega), fun z => h1 ?_⟩
  rw [z]
  decide
theorem lj_Jd {l d : Int32} (h : lj_J l d) : d.toInt16.toInt32 = d ∧ 0 ≤ d := by
  obtain ⟨_, _, h3, h4⟩ := h
  refine ⟨?_, Int32.not_lt.mp h3⟩
  obtain ⟨j, hj, rfl⟩ := nI_of2 (M := 200) (n := 200) (by decide) h3 (Int32.not_lt.mp h4)
  exact lj_short j (by omega)
/-- the picture: one job, at place 0, of length l and deadline d, firm if f isn't 0 -/
def lj_G (l d f jc rk : Int32) (a1 a2 a3 a4 : Nat → Int32) : Prop := jc = 1 ∧ rk = 1 ∧ a1 0 = l ∧ (∀ j, j ≠ 0 → a1 j = 0) ∧ a2 0 = d ∧ a3 0 = f ∧ a4 0 = 0
/-! ===== the methods ===== -/
section
variable {jc rk ad ct tm l d f p : Int32} {a1 a2 a3 a4 : Nat → Int32}
theorem lj_job {post : Int32 → Prop} {p0 p1 : Int32} (H1 : lj_J p0 p1 → post 1) (H0 : ¬ lj_J p0 p1 → post 0) : wpX_isJob post (jc, rk, ad, ct, tm, a1, a2, a3, a4) p0 p1 :=
  br_c (fun g => H0 (fun t => t.1 g)) (fun g1 => br_c (fun g => H0 (fun t => t.2.1 g)) (fun g2 => br_c (fun g => H0 (fun t => t.2.2.1 g)) (fun g3 => br_c (fun g => H0 (fun t => t.2.2.2 g)) (fun g4 => H1 ⟨g1, g2, g3, g4⟩))))
theorem lj_place0 {post : Int32 → Prop} (h : ∀ j, j < 10 → p = nI j → a1 j = 0) (H : post 0) : wpX_isPlace post (jc, rk, ad, ct, tm, a1, a2, a3, a4) p := by
  refine br_c (fun _ => H) (fun g0 => br_c (fun _ => H) (fun g9 => ?_))
  obtain ⟨j, hj, rfl⟩ := nI_of2 (M := 9) (n := 9) (by decide) g0 (Int32.not_lt.mp g9)
  refine ⟨pk_in j 11 (by omega), br_t ?_ H⟩
  rw [nI_clamp (by omega)]
  exact h j (by omega) rfl
theorem lj_place1 {post : Int32 → Prop} (h : ¬ a1 0 = 0) (H : post 1) : wpX_isPlace post (jc, rk, ad, ct, tm, a1, a2, a3, a4) 0 :=
  br_f (by decide) (br_f (by decide) ⟨pk_in 0 11 (by omega), br_f (by rw [lj_c0]; exact h) H⟩)
theorem lj_insert {post : St2 → Prop} (H : post (jc, 1, ad, ct, tm, a1, a2, a3, upd a4 0 0)) : wpX_insert post (jc, 0, ad, ct, tm, a1, a2, a3, a4) 0 := by
  unfold wpX_insert
  refine Exists.intro 1 (br_t (show (0 : Int32) ≤ 0 by decide) ?_)
  unfold wX_insert_51
  refine ⟨pk_in 0 11 (by omega), nm_r (e' := upd a4 0 0) ?_ (nm_r (e' := 1) (by decide) H)⟩
  rw [lj_c0]
  rfl
theorem lj_put {post : Int32 → St2 → Prop} {p0 p1 p2 : Int32} (h2 : p2 = 0 ∨ p2 = 1)
    (H1 : lj_J p0 p1 → ∀ b1 b2 b3 b4, lj_G p0 p1 p2 1 1 b1 b2 b3 b4 → post 0 (1, 1, ad, ct, tm, b1, b2, b3, b4))
    (H0 : ¬ lj_J p0 p1 → post (-1) (0, 0, ad, ct, tm, (fun _ => 0), (fun _ => 0), (fun _ => 0), (fun _ => 0))) :
    wpX_put post (0, 0, ad, ct, tm, (fun _ => 0), (fun _ => 0), (fun _ => 0), (fun _ => 0)) p0 p1 p2 := by
  unfold wpX_put
  refine br_t (show (0 : Int32) < 10 by decide) (lj_job (fun hJ => ?_) (fun hJ => br_t rfl (H0 hJ)))
  refine br_f lj_1n0 (Exists.intro 1 (br_f (show ¬ (9 : Int32) ≤ 0 by decide) ⟨pk_in 0 11 (by omega), br_t rfl ?_⟩))
  unfold wX_put_49
  refine ⟨pk_in 0 11 (by omega), nm_e ⟨pk_in 0 11 (by omega), nm_e ⟨pk_in 0 11 (by omega), nm_e (nm_r (e' := 1) (by decide) (lj_insert ?_))⟩⟩⟩
  refine H1 hJ _ _ _ _ ⟨rfl, rfl, ?_, fun j hj => ?_, ?_, ?_, pk_us⟩
  · rw [lj_c0, pk_us]
    exact (lj_Jl hJ).1
  · rw [lj_c0, pk_un hj]
  · rw [lj_c0, pk_us]
    exact (lj_Jd hJ).1
  · rw [lj_c0, pk_us]
    exact lj_bool h2
/-! in time, feasible -/
theorem lj_inTimeE {post : Int32 → Prop} (hr : rk = 0) (H : post 1) : wpX_inTime post (jc, rk, ad, ct, tm, a1, a2, a3, a4) p := by
  subst hr
  unfold wpX_inTime
  exact Exists.intro 1 (br_t (show (0 : Int32) ≤ 0 by decide) H)
theorem lj_inTime0 {post : Int32 → Prop} (h : lj_G l d f jc rk a1 a2 a3 a4) (H : post 1) : wpX_inTime post (jc, rk, ad, ct, tm, a1, a2, a3, a4) 0 := by
  obtain ⟨rfl, rfl, h1, _, h2, h3, h4⟩ := h
  unfold wpX_inTime
  refine Exists.intro 2 (br_f (show ¬ (1 : Int32) ≤ 0 by decide) ⟨pk_in 0 11 (by omega), nm_r (e' := 0) (by rw [lj_c0]; exact h4) (br_t lj_b00 (nm_r (e' := 1) (by decide) ?_))⟩)
  exact br_t (show (1 : Int32) ≤ 1 by decide) H
theorem lj_inTime1 {post : Int32 → Prop} (h : lj_G l d f jc rk a1 a2 a3 a4) (H1 : l ≤ d → post 1) (H0 : ¬ l ≤ d → post 0) : wpX_inTime post (jc, rk, ad, ct, tm, a1, a2, a3, a4) 1 := by
  obtain ⟨rfl, rfl, h1, _, h2, h3, h4⟩ := h
  have e2 : a2 (0 : Int32).toNatClampNeg = d := by rw [lj_c0]; exact h2
  unfold wpX_inTime
  refine Exists.intro 2 (br_f (show ¬ (1 : Int32) ≤ 0 by decide) ⟨pk_in 0 11 (by omega), nm_r (e' := 0) (by rw [lj_c0]; exact h4) (br_f lj_b10 ⟨pk_in 0 11 (by omega), nm_r (e' := l) (by rw [lj_c0, h1]; exact Int32.zero_add l) ⟨pk_in 0 11 (by omega), ?_⟩⟩)⟩)
  rw [e2]
  exact br_c (fun g => nm_r (e' := 1) (by decide) (br_t (show (1 : Int32) ≤ 1 by decide) (H1 g))) (fun g => H0 g)
theorem lj_feas15 {post : Int32 → Prop} {k : Nat} (hk : k < 1024)
    (H0 : (∃ j, j < 10 ∧ k / 2 ^ j % 2 = 1 ∧ a1 j = 0) → post 0)
    (H1 : (∀ j, j < 10 → k / 2 ^ j % 2 = 1 → ¬ a1 j = 0) → wpX_inTime (fun r => (narrow .boolean (.int r) = .int r ∧ (post r))) (jc, rk, ad, ct, tm, a1, a2, a3, a4) (nI k)) :
    ∃ n, wX_feasible_15 post (nI k) jc rk ad ct tm a1 a2 a3 a4 n 0 :=
  pk_loop (σ := Unit) (fun n i _ => wX_feasible_15 post (nI k) jc rk ad ct tm a1 a2 a3 a4 n (nI i)) (fun i _ => ∀ j, j < i → k / 2 ^ j % 2 = 1 → ¬ a1 j = 0) 10 0 () (by omega) (fun j hj => absurd hj (by omega))
    (fun n _ h => pk_le 10 10 (fun _ => H1 h) (fun z => absurd z (by omega)))
    (fun n i _ hi h hw => by
      show wX_feasible_15 post (nI k) jc rk ad ct tm a1 a2 a3 a4 (n + 1) (nI i)
      refine pk_le 10 i (fun z => absurd z (by omega)) (fun _ => ?_)
      rw [lj_bit (show k < 2 ^ 31 by omega) (show i < 32 by omega), nI_clamp (show i < 2 ^ 31 by omega)]
      have hb : k / 2 ^ i % 2 < 2 := Nat.mod_lt _ (by omega)
      refine pk_eq (k / 2 ^ i % 2) 0 (fun z => nm_r (nI_1 i) (hw () (lt_s h (fun y => absurd y (by omega))))) (fun z => ⟨pk_in i 11 (by omega), br_c (fun g => H0 ⟨i, hi, by omega, g⟩) (fun g => nm_r (nI_1 i) (hw () (lt_s h (fun _ => g))))⟩))
theorem lj_feasK {post : Int32 → Prop} (H : ¬ p = 0 → ¬ p = 1 → post 0) (K : ∀ k, k < 1024 → p = nI k → ∃ n, wX_feasible_15 post (nI k) jc rk ad ct tm a1 a2 a3 a4 n 0) : wpX_feasible post (jc, rk, ad, ct, tm, a1, a2, a3, a4) p := by
  unfold wpX_feasible
  refine br_c (fun g => H (fun z => ?_) (fun z => ?_)) (fun g0 => br_c (fun g => ?_) (fun g => H (fun z => ?_) (fun z => ?_)))
  · rw [z] at g
    exact absurd g (by decide)
  · rw [z] at g
    exact absurd g (by decide)
  · obtain ⟨k, hk, rfl⟩ := nI_of2 (M := 1023) (n := 1023) (by decide) g0 g
    exact K k (by omega) rfl
  · rw [z] at g
    exact absurd (show (0 : Int32) ≤ 1023 by decide) g
  · rw [z] at g
    exact absurd (show (1 : Int32) ≤ 1023 by decide) g
theorem lj_feasE {post : Int32 → Prop} (hr : rk = 0) (ha : ∀ j, a1 j = 0) (H1 : p = 0 → post 1) (H0 : ¬ p = 0 → post 0) : wpX_feasible post (jc, rk, ad, ct, tm, a1, a2, a3, a4) p := by
  refine lj_feasK (fun z _ => H0 z) (fun k hk hp => ?_)
  refine lj_feas15 hk (fun h => H0 (fun z => ?_)) (fun h => lj_inTimeE hr ⟨lj_nb1, H1 ?_⟩)
  · obtain ⟨j, _, hb, _⟩ := h
    have hk0 : k = 0 := (nI_eq (by omega) (by omega)).mp ((hp.symm.trans z).trans nI_0.symm)
    rw [hk0, Nat.zero_div] at hb
    exact absurd hb (by decide)
  · have hk2 : k < 2 := lj_hi hk (fun j hj _ hb => h j hj hb (ha j))
    have hk1 : ¬ k = 1 := fun z => h 0 (by omega) (by rw [z]) (ha 0)
    have hk0 : k = 0 := by omega
    rw [hp, hk0]
    exact nI_0
theorem lj_feasG {post : Int32 → Prop} (h : lj_G l d f jc rk a1 a2 a3 a4) (hl : ¬ l = 0) (H1 : p = 0 → post 1) (H2 : p = 1 → l ≤ d → post 1) (H3 : p = 1 → ¬ l ≤ d → post 0) (H4 : ¬ p = 0 → ¬ p = 1 → post 0) : wpX_feasible post (jc, rk, ad, ct, tm, a1, a2, a3, a4) p := by
  refine lj_feasK H4 (fun k hk hp => ?_)
  have h1 : ¬ a1 0 = 0 := by
    rw [h.2.2.1]
    exact hl
  by_cases k0 : k = 0
  · subst k0
    refine lj_feas15 hk (fun z => ?_) (fun _ => lj_inTime0 h ⟨lj_nb1, H1 hp⟩)
    obtain ⟨j, _, hb, _⟩ := z
    rw [Nat.zero_div] at hb
    exact absurd hb (by decide)
  · by_cases k1 : k = 1
    · subst k1
      refine lj_feas15 hk (fun z => ?_) (fun _ => lj_inTime1 h (fun g => ⟨lj_nb1, H2 hp g⟩) (fun g => ⟨lj_nb0, H3 hp g⟩))
      obtain ⟨j, hj, hb, ha⟩ := z
      rw [lj_one j hj hb] at ha
      exact absurd ha h1
    · have n0 : ¬ p = 0 := fun z => k0 ((nI_eq (by omega) (by omega)).mp ((hp.symm.trans z).trans nI_0.symm))
      have n1 : ¬ p = 1 := fun z => k1 ((nI_eq (by omega) (by omega)).mp (hp.symm.trans (z.trans (show (1 : Int32) = nI 1 by rfl))))
      refine lj_feas15 hk (fun _ => H4 n0 n1) (fun z => ?_)
      have hk2 : k < 2 := lj_hi hk (fun j hj j0 hb => z j hj hb (h.2.2.2.1 j j0))
      omega
/-! admission -/
theorem lj_giveUp {post : Int32 → St2 → Prop} (h1 : a1 0 = l) (h3 : a3 0 = f)
    (H0 : f = 0 → post 1 (jc, rk, 0, 0, 0, a1, a2, a3, a4)) (H1 : ¬ f = 0 → post 0 (jc, rk, 1, 1, l, a1, a2, a3, a4)) :
    wpX_giveUpLongest post (jc, rk, 1, 1, l, a1, a2, a3, a4) := by
  unfold wpX_giveUpLongest
  refine pk_loop (fun n i s => wX_giveUpLongest_4 post jc rk 1 1 l a1 a2 a3 a4 n s (nI i)) (fun i s => (i = 0 ∧ s = -1) ∨ (0 < i ∧ f = 0 ∧ s = 0) ∨ (0 < i ∧ ¬ f = 0 ∧ s = -1)) 11 0 (-1) (by omega) (Or.inl ⟨rfl, rfl⟩) ?_ ?_
  · intro n s hI
    show wX_giveUpLongest_4 post jc rk 1 1 l a1 a2 a3 a4 (n + 1) s (nI 11)
    refine pk_le 11 11 (fun _ => ?_) (fun z => absurd z (by omega))
    rcases hI with ⟨z, _⟩ | ⟨_, hf, rfl⟩ | ⟨_, hf, rfl⟩
    · exact absurd z (by omega)
    · exact br_t (show (0 : Int32) ≤ 0 by decide) (nm_r (e' := 0) (by decide +kernel) (nm_r (e' := 0) (by decide) ⟨pk_in 0 11 (by omega), nm_r (e' := 0) (by rw [lj_c0, h1]; exact Int32.sub_self l) (H0 hf)⟩))
    · exact br_f (show ¬ (0 : Int32) ≤ -1 by decide) (H1 hf)
  · intro n i s hi hI hw
    show wX_giveUpLongest_4 post jc rk 1 1 l a1 a2 a3 a4 (n + 1) s (nI i)
    have hw' : ∀ s', ((i + 1 = 0 ∧ s' = -1) ∨ (0 < i + 1 ∧ f = 0 ∧ s' = 0) ∨ (0 < i + 1 ∧ ¬ f = 0 ∧ s' = -1)) → wX_giveUpLongest_4 post jc rk 1 1 l a1 a2 a3 a4 n s' (nI (i + 1)) := hw
    refine pk_le 11 i (fun z => absurd z (by omega)) (fun _ => ?_)
    by_cases i0 : i = 0
    · subst i0
      refine br_f lj_b0 ⟨pk_in 0 11 (by omega), ?_⟩
      rw [nI_clamp (show 0 < 2 ^ 31 by omega), h3]
      rcases hI with ⟨_, rfl⟩ | ⟨z, _⟩ | ⟨z, _⟩
      · exact br_c (fun hf => br_t (show (-1 : Int32) < 0 by decide) (nm_r (nI_1 0) (hw' _ (Or.inr (Or.inl ⟨by omega, hf, nI_0⟩))))) (fun hf => nm_r (nI_1 0) (hw' _ (Or.inr (Or.inr ⟨by omega, hf, rfl⟩))))
      · exact absurd z (by omega)
      · exact absurd z (by omega)
    · refine br_t (lj_b1 i hi i0) (nm_r (nI_1 i) (hw' _ ?_))
      rcases hI with ⟨z, _⟩ | ⟨_, hf, e⟩ | ⟨_, hf, e⟩
      · exact absurd z i0
      · exact Or.inr (Or.inl ⟨by omega, hf, e⟩)
      · exact Or.inr (Or.inr ⟨by omega, hf, e⟩)
theorem lj_admitE {post : Int32 → St2 → Prop} (hr : rk = 0) (H : post 1 (jc, 0, 0, 0, 0, a1, a2, a3, a4)) : wpX_admit post (jc, rk, ad, ct, tm, a1, a2, a3, a4) := by
  subst hr
  unfold wpX_admit
  exact Exists.intro 1 (br_t (show (0 : Int32) ≤ 0 by decide) H)
theorem lj_admitG {post : Int32 → St2 → Prop} (h : lj_G l d f jc rk a1 a2 a3 a4) (hd : 0 ≤ d)
    (Hf : l ≤ d → post 1 (jc, rk, 1, 1, l, a1, a2, a3, a4))
    (H0 : ¬ l ≤ d → f = 0 → post 1 (jc, rk, 0, 0, 0, a1, a2, a3, a4))
    (H1 : ¬ l ≤ d → ¬ f = 0 → post 0 (jc, rk, 1, 1, l, a1, a2, a3, a4)) :
    wpX_admit post (jc, rk, ad, ct, tm, a1, a2, a3, a4) := by
  obtain ⟨rfl, rfl, h1, _, h2, h3, h4⟩ := h
  have e2 : a2 (0 : Int32).toNatClampNeg = d := by rw [lj_c0]; exact h2
  have J : ∀ (a c t : Int32), post 1 (1, 1, a, c, t, a1, a2, a3, a4) → wX_admit_17 post 1 1 1 1 a c t a1 a2 a3 a4 := fun a c t H => br_t (show (1 : Int32) ≤ 1 by decide) H
  unfold wpX_admit
  refine Exists.intro 2 (br_f (show ¬ (1 : Int32) ≤ 0 by decide) ⟨pk_in 0 11 (by omega), nm_r (e' := 0) (by rw [lj_c0]; exact h4) (nm_r (e' := 1) (by decide) (nm_r (e' := 1) (by decide) ⟨pk_in 0 11 (by omega), nm_r (e' := l) (by rw [lj_c0, h1]; exact Int32.zero_add l) (Exists.intro 2 ?_)⟩))⟩)
  refine br_f (show ¬ (11 : Int32) ≤ 0 by decide) ⟨pk_in 0 11 (by omega), ?_⟩
  rw [e2]
  refine br_c (fun g => nm_r (e' := 1) (by decide) (J _ _ _ (Hf g))) (fun g => ?_)
  refine lj_giveUp h1 h3 (fun hf => br_f lj_1n0 (nm_r (e' := 1) (by decide) ?_)) (fun hf => br_t rfl (H1 g hf))
  refine br_f (show ¬ (11 : Int32) ≤ 1 by decide) ⟨pk_in 0 11 (by omega), ?_⟩
  rw [e2]
  exact br_t hd (nm_r (e' := 1) (by decide) (J _ _ _ (H0 g hf)))
/-! affordable, drop -/
theorem lj_aff56 {post : Int32 → St2 → Prop} {r : Int32} (hf : f = 0 ∨ f = 1) (hr : narrow .boolean (.int r) = .int r) (H : post r (jc, rk, ad, ct, tm, a1, a2, upd a3 0 f, a4)) : wX_affordable_56 post 0 f r jc rk ad ct tm a1 a2 a3 a4 := by
  unfold wX_affordable_56
  exact ⟨pk_in 0 11 (by omega), nm_r (e' := upd a3 0 f) (by rw [lj_c0, lj_bool hf]) ⟨hr, H⟩⟩
theorem lj_affE {post : Int32 → St2 → Prop} (ha : ∀ j, a1 j = 0) (H : post 0 (jc, rk, ad, ct, tm, a1, a2, a3, a4)) : wpX_affordable post (jc, rk, ad, ct, tm, a1, a2, a3, a4) p := by
  unfold wpX_affordable
  exact lj_place0 (fun j _ _ => ha j) (br_t rfl H)
theorem lj_Gu {x : Int32} (h : lj_G l d f jc rk a1 a2 a3 a4) : lj_G l d x jc rk a1 a2 (upd a3 0 x) a4 := ⟨h.1, h.2.1, h.2.2.1, h.2.2.2.1, h.2.2.2.2.1, pk_us, h.2.2.2.2.2.2⟩
theorem lj_Gz (h : lj_G l d f jc rk a1 a2 a3 a4) (hp : ¬ p = 0) : ∀ j, j < 10 → p = nI j → a1 j = 0 := by
  intro j _ e
  refine h.2.2.2.1 j (fun z => hp ?_)
  rw [e, z]
  exact nI_0
theorem lj_affG {post : Int32 → St2 → Prop} (h : lj_G l d f jc rk a1 a2 a3 a4) (hl : ¬ l = 0) (hd : 0 ≤ d) (hf : f = 0 ∨ f = 1)
    (H1 : p = 0 → l ≤ d → ∀ ad ct tm b3, lj_G l d f jc rk a1 a2 b3 a4 → post 1 (jc, rk, ad, ct, tm, a1, a2, b3, a4))
    (H0 : ¬ (p = 0 ∧ l ≤ d) → ∀ ad ct tm b3, lj_G l d f jc rk a1 a2 b3 a4 → post 0 (jc, rk, ad, ct, tm, a1, a2, b3, a4)) :
    wpX_affordable post (jc, rk, ad, ct, tm, a1, a2, a3, a4) p := by
  unfold wpX_affordable
  by_cases hp : p = 0
  · subst hp
    have e3 : a3 (0 : Int32).toNatClampNeg = f := by rw [lj_c0]; exact h.2.2.2.2.2.1
    refine lj_place1 (by rw [h.2.2.1]; exact hl) (br_f lj_1n0 (lj_admitG h hd (fun g => ?_) (fun g hf0 => ?_) (fun g hf1 => ?_)))
    · refine br_f lj_1n0 ⟨pk_in 0 11 (by omega), nm_r (e' := f) e3 ⟨pk_in 0 11 (by omega), nm_r (e' := upd a3 0 1) (by rw [lj_c0]) (lj_admitG (lj_Gu h) hd (fun _ => ?_) (fun z => absurd g z) (fun z => absurd g z))⟩⟩
      exact br_f lj_1n0 (br_t rfl (lj_aff56 hf lj_nb1 (H1 rfl g _ _ _ _ (lj_Gu (lj_Gu h)))))
    · refine br_f lj_1n0 ⟨pk_in 0 11 (by omega), nm_r (e' := f) e3 ⟨pk_in 0 11 (by omega), nm_r (e' := upd a3 0 1) (by rw [lj_c0]) (lj_admitG (lj_Gu h) hd (fun z => absurd z g) (fun _ z => absurd z lj_1n0) (fun _ _ => ?_))⟩⟩
      refine br_t rfl ?_
      unfold wX_affordable_55
      exact lj_aff56 hf lj_nb0 (H0 (fun z => g z.2) _ _ _ _ (lj_Gu (lj_Gu h)))
    · exact br_t rfl (H0 (fun z => g z.2) _ _ _ _ h)
  · exact lj_place0 (lj_Gz h hp) (br_t rfl (H0 (fun z => hp z.1) _ _ _ _ h))
theorem lj_dropN {post : Int32 → St2 → Prop} (ha : ∀ j, j < 10 → p = nI j → a1 j = 0) (H : post (-1) (jc, rk, ad, ct, tm, a1, a2, a3, a4)) : wpX_drop post (jc, rk, ad, ct, tm, a1, a2, a3, a4) p := by
  unfold wpX_drop
  exact lj_place0 ha (br_t rfl H)
theorem lj_drop0 {post : Int32 → St2 → Prop} (h : lj_G l d f jc rk a1 a2 a3 a4) (hl : ¬ l = 0) (H : ∀ u, post 0 u) : wpX_drop post (jc, rk, ad, ct, tm, a1, a2, a3, a4) 0 := by
  have h1 : ¬ a1 0 = 0 := by
    rw [h.2.2.1]
    exact hl
  obtain ⟨rfl, rfl, _, _, _, _, _⟩ := h
  unfold wpX_drop
  refine lj_place1 h1 (br_f lj_1n0 ⟨pk_in 0 11 (by omega), nm_e (nm_r (e' := 0) (by decide) ?_)⟩)
  unfold wpX_withdraw
  refine Exists.intro 1 (br_t (show (1 : Int32) - 1 ≤ 0 by decide) (nm_r (e' := 0) (by decide) (Exists.intro 1 (br_t (show (0 : Int32) ≤ 0 by decide) (H _)))))
end
end
section
/-! ===== the law, without a job ===== -/
section
variable {post : Int32 → St0 → Prop} {mc ms kc ks : Nat} {x0 x1 x3 x4 x6 z ad ct tm : Int32} {a1 a2 a3 a4 : Nat → Int32}
theorem lj_226E (H : post 1 ()) (ha : ∀ j, a1 j = 0) : wL_lawOf_226 post mc ms x3 0 z z kc ks 0 0 ad ct tm a1 a2 a3 a4 := by
  unfold wL_lawOf_226
  refine br_t rfl (lj_dropN (fun j _ _ => ha j) (br_t rfl ?_))
  unfold wL_lawOf_250 wL_lawOf_251
  exact br_t rfl H
theorem lj_186E (H : post 1 ()) (ha : ∀ j, a1 j = 0) : wL_lawOf_186 post mc ms x0 x3 0 x6 0 z z kc ks 0 0 ad ct tm a1 a2 a3 a4 := by
  unfold wL_lawOf_186 wpX_leastTime
  refine br_t rfl (lj_admitE rfl (br_f lj_1n0 (br_t rfl ?_)))
  unfold wL_lawOf_216
  exact br_t rfl (lj_226E H ha)
theorem lj_161E (H : post 1 ()) (ha : ∀ j, a1 j = 0) : wL_lawOf_161 post mc ms x0 x3 0 x6 0 z z kc ks 0 0 ad ct tm a1 a2 a3 a4 := by
  unfold wL_lawOf_161
  refine br_t rfl (lj_affE ha (br_t rfl ?_))
  unfold wL_lawOf_185
  exact lj_186E H ha
theorem lj_121E (H : post 1 ()) (ha : ∀ j, a1 j = 0) : wL_lawOf_121 post mc ms x0 x3 0 x6 0 z z kc ks 0 0 ad ct tm a1 a2 a3 a4 := by
  unfold wL_lawOf_121 wpX_mostInTime
  refine br_t rfl (lj_admitE rfl (br_f lj_1n0 (br_t rfl ?_)))
  unfold wL_lawOf_151
  exact br_t rfl (lj_161E H ha)
theorem lj_88E (H : post 1 ()) (ha : ∀ j, a1 j = 0) : wL_lawOf_88 post mc ms x0 x3 x4 0 x6 0 z z kc ks 0 0 ad ct tm a1 a2 a3 a4 := by
  unfold wL_lawOf_88
  refine br_t rfl (lj_feasE rfl ha (fun e => br_t e ?_) (fun e => br_f e (br_c (fun _ => br_t rfl ?_) (fun _ => ?_))))
  · unfold wL_lawOf_116
    exact lj_121E H ha
  · unfold wL_lawOf_120
    exact lj_121E H ha
  · unfold wL_lawOf_120
    exact lj_121E H ha
end
/-! ===== the law, with a job ===== -/
section
variable {post : Int32 → St0 → Prop} {mc ms kc ks : Nat} {l d f x3 x4 x7 z jc rk ad ct tm : Int32} {a1 a2 a3 a4 : Nat → Int32}
theorem lj_226G (H : post 1 ()) (h : lj_G l d f jc rk a1 a2 a3 a4) (hl : ¬ l = 0) : wL_lawOf_226 post mc ms x3 1 z z kc ks jc rk ad ct tm a1 a2 a3 a4 := by
  unfold wL_lawOf_226
  by_cases e : x3 = 0
  · subst e
    refine br_t rfl (lj_drop0 h hl (fun u => br_f lj_1n0 (br_t rfl ?_)))
    unfold wL_lawOf_251
    exact br_t rfl H
  · refine br_t rfl (lj_dropN (lj_Gz h e) (br_f lj_1n0 (br_f e ?_)))
    unfold wL_lawOf_250 wL_lawOf_251
    exact br_t rfl H
theorem lj_186G (H : post 1 ()) (h : lj_G l d f jc rk a1 a2 a3 a4) (hl : ¬ l = 0) (hd : 0 ≤ d) (h7 : (x7 = 1 ∧ l ≤ d) ∨ (x7 = 0 ∧ ¬ l ≤ d)) : wL_lawOf_186 post mc ms l x3 1 f x7 z z kc ks jc rk ad ct tm a1 a2 a3 a4 := by
  unfold wL_lawOf_186 wpX_leastTime
  rcases h7 with ⟨rfl, hc⟩ | ⟨rfl, hc⟩
  · have R : ∀ ad ct tm, wL_lawOf_216 post mc ms l x3 1 1 l kc ks jc rk ad ct tm a1 a2 a3 a4 := fun ad ct tm => br_f lj_1n0 (lj_226G H h hl)
    exact br_t rfl (lj_admitG h hd (fun _ => br_f lj_1n0 (br_f lj_1n0 (br_c (fun _ => R _ _ _) (fun _ => br_f lj_1n0 (R _ _ _))))) (fun g => absurd hc g) (fun g => absurd hc g))
  · have R : ∀ ad ct tm, wL_lawOf_216 post mc ms l x3 1 0 0 kc ks jc rk ad ct tm a1 a2 a3 a4 := fun ad ct tm => br_t rfl (lj_226G H h hl)
    exact br_t rfl (lj_admitG h hd (fun g => absurd g hc) (fun _ g => br_f lj_1n0 (br_f lj_1n0 (br_t g (R _ _ _)))) (fun _ g => br_t rfl (br_f lj_1n0 (br_f g (br_t rfl (lj_226G H h hl))))))
theorem lj_161G (H : post 1 ()) (h : lj_G l d f jc rk a1 a2 a3 a4) (hl : ¬ l = 0) (hd : 0 ≤ d) (hf : f = 0 ∨ f = 1) (h7 : (x7 = 1 ∧ l ≤ d) ∨ (x7 = 0 ∧ ¬ l ≤ d)) : wL_lawOf_161 post mc ms l x3 1 f x7 z z kc ks jc rk ad ct tm a1 a2 a3 a4 := by
  unfold wL_lawOf_161 wL_lawOf_185
  refine br_t rfl (lj_affG h hl hd hf (fun e hc ad ct tm b3 hb => ?_) (fun e ad ct tm b3 hb => ?_))
  · have e7 : ¬ x7 = 0 := by
      rcases h7 with ⟨rfl, _⟩ | ⟨_, g⟩
      · exact lj_1n0
      · exact absurd hc g
    exact br_f e7 (br_t e (lj_186G H hb hl hd h7))
  · refine br_c (fun _ => lj_186G H hb hl hd h7) (fun e7 => br_f (fun e3 => e ⟨e3, ?_⟩) (lj_186G H hb hl hd h7))
    rcases h7 with ⟨_, g⟩ | ⟨g, _⟩
    · exact g
    · exact absurd g e7
theorem lj_121G (H : post 1 ()) (h : lj_G l d f jc rk a1 a2 a3 a4) (hl : ¬ l = 0) (hd : 0 ≤ d) (hf : f = 0 ∨ f = 1) (h7 : (x7 = 1 ∧ l ≤ d) ∨ (x7 = 0 ∧ ¬ l ≤ d)) : wL_lawOf_121 post mc ms l x3 1 f x7 z z kc ks jc rk ad ct tm a1 a2 a3 a4 := by
  unfold wL_lawOf_121 wpX_mostInTime
  rcases h7 with ⟨rfl, hc⟩ | ⟨rfl, hc⟩
  · have R : ∀ ad ct tm, wL_lawOf_151 post mc ms l x3 1 f 1 1 kc ks jc rk ad ct tm a1 a2 a3 a4 := fun ad ct tm => br_f lj_1n0 (lj_161G H h hl hd hf (Or.inl ⟨rfl, hc⟩))
    exact br_t rfl (lj_admitG h hd (fun _ => br_f lj_1n0 (br_f lj_1n0 (br_c (fun _ => R _ _ _) (fun _ => br_f lj_1n0 (R _ _ _))))) (fun g => absurd hc g) (fun g => absurd hc g))
  · have R : ∀ ad ct tm, wL_lawOf_151 post mc ms l x3 1 f 0 0 kc ks jc rk ad ct tm a1 a2 a3 a4 := fun ad ct tm => br_t rfl (lj_161G H h hl hd hf (Or.inr ⟨rfl, hc⟩))
    exact br_t rfl (lj_admitG h hd (fun g => absurd g hc) (fun _ g => br_f lj_1n0 (br_f lj_1n0 (br_t g (R _ _ _)))) (fun _ g => br_t rfl (br_f lj_1n0 (br_f g (br_t rfl (lj_161G H h hl hd hf (Or.inr ⟨rfl, hc⟩)))))))
theorem lj_88G (H : post 1 ()) (h : lj_G l d f jc rk a1 a2 a3 a4) (hl : ¬ l = 0) (hd : 0 ≤ d) (hf : f = 0 ∨ f = 1) (h7 : (x7 = 1 ∧ l ≤ d) ∨ (x7 = 0 ∧ ¬ l ≤ d)) : wL_lawOf_88 post mc ms l x3 x4 1 f x7 z z kc ks jc rk ad ct tm a1 a2 a3 a4 := by
  have T : ∀ z, wL_lawOf_121 post mc ms l x3 1 f x7 z z kc ks jc rk ad ct tm a1 a2 a3 a4 := fun z => lj_121G H h hl hd hf h7
  unfold wL_lawOf_88 wL_lawOf_116 wL_lawOf_120
  refine br_t rfl (lj_feasG h hl (fun e => br_t e (T 1)) (fun e g => ?_) (fun e g => ?_) (fun e0 e1 => br_f e0 (br_f e1 (T 0))))
  · refine br_f (by rw [e]; exact lj_1n0) (br_t e (br_f ?_ (T 1)))
    rcases h7 with ⟨rfl, _⟩ | ⟨_, g'⟩
    · exact lj_1n0
    · exact absurd g g'
  · refine br_f (by rw [e]; exact lj_1n0) (br_t e (br_t ?_ (T 0)))
    rcases h7 with ⟨_, g'⟩ | ⟨e7, _⟩
    · exact absurd g' g
    · exact e7
end
end
section
/-! ===== the top ===== -/
section
variable {post : Int32 → St0 → Prop} {x0 x1 x3 x4 x6 x7 : Int32}
theorem lj_58E (H : post 1 ()) (h6 : x6 = 0 ∨ x6 = 1) (hJ : ¬ lj_J x0 x1) : wL_lawOf_58 post 24 368 x0 x1 x3 x4 0 x6 0 0 0 := by
  unfold wL_lawOf_58
  refine ⟨by omega, by omega, 4, 44, by omega, by omega, ?_⟩
  unfold wpX_init
  refine ⟨by omega, by omega, by omega, by omega, by omega, by omega, by omega, by omega, ?_⟩
  exact lj_put h6 (fun g => absurd g hJ) (fun _ => br_t rfl (lj_88E H (fun _ => rfl)))
theorem lj_58G (H : post 1 ()) (h6 : x6 = 0 ∨ x6 = 1) (hJ : lj_J x0 x1) (h7 : (x7 = 1 ∧ x0 ≤ x1) ∨ (x7 = 0 ∧ ¬ x0 ≤ x1)) : wL_lawOf_58 post 24 368 x0 x1 x3 x4 1 x6 x7 0 0 := by
  unfold wL_lawOf_58
  refine ⟨by omega, by omega, 4, 44, by omega, by omega, ?_⟩
  unfold wpX_init
  refine ⟨by omega, by omega, by omega, by omega, by omega, by omega, by omega, by omega, ?_⟩
  exact lj_put h6 (fun _ b1 b2 b3 b4 hb => br_f lj_1n0 (lj_88G H hb (lj_Jl hJ).2 (lj_Jd hJ).2 h6 h7)) (fun g => absurd hJ g)
theorem lj_27E {x2 : Int32} (H : post 1 ()) (hJ : ¬ lj_J x0 x1) : wL_lawOf_26 post 24 368 x0 x1 x2 x3 x4 0 0 := by
  unfold wL_lawOf_26 wL_lawOf_27 wL_lawOf_41 wL_lawOf_57
  exact br_c (fun _ => br_t rfl (lj_58E H (Or.inr rfl) hJ)) (fun _ => br_t rfl (lj_58E H (Or.inl rfl) hJ))
theorem lj_27G {x2 : Int32} (H : post 1 ()) (hJ : lj_J x0 x1) : wL_lawOf_27 post 24 368 x0 x1 x2 x3 x4 1 0 0 := by
  have R : ∀ f : Int32, (f = 0 ∨ f = 1) → wL_lawOf_41 post 24 368 x0 x1 x3 x4 1 f 0 0 := by
    intro f hf
    unfold wL_lawOf_41 wL_lawOf_57
    exact br_f lj_1n0 (br_c (fun g => lj_58G H hf hJ (Or.inr ⟨rfl, Int32.not_le.mpr g⟩)) (fun g => lj_58G H hf hJ (Or.inl ⟨rfl, Int32.not_lt.mp g⟩)))
  unfold wL_lawOf_27
  exact br_c (fun _ => R 1 (Or.inr rfl)) (fun _ => R 0 (Or.inl rfl))
theorem lj_lawOf {p0 p1 p2 p3 p4 : Int32} (H : post 1 ()) : wpL_lawOf post 24 368 () p0 p1 p2 p3 p4 := by
  unfold wpL_lawOf
  exact br_c (fun g => lj_27E H (fun t => t.1 g)) (fun g1 => br_c (fun g => lj_27E H (fun t => t.2.1 g)) (fun g2 => br_c (fun g => lj_27E H (fun t => t.2.2.1 g)) (fun g3 => br_c (fun g => lj_27E H (fun t => t.2.2.2 g)) (fun g4 => lj_27G H ⟨g1, g2, g3, g4⟩))))
end
theorem lj_cell {post : Int32 → Prop} {L : Nat} {xs : Nat → Int32} {p : Int32} (k : Nat) (hL : L ≤ 5) (hk : k < 5) (hp : p = nI k) (H : ∀ r, post r) : wpL_cellAt post L xs () p := by
  unfold wpL_cellAt
  exact pk_le L k (fun _ => H _) (fun z => ⟨pk_in k L z hp, H _⟩) rfl hp
theorem i_vc (xs : Nat → Int32) (L : Nat) (hL : L ≤ 5) : wpL_law (fun r => r = 1) L xs := by
  unfold wpL_law
  exact lj_cell 0 hL (by omega) rfl (fun r1 => lj_cell 1 hL (by omega) rfl (fun r2 => lj_cell 2 hL (by omega) rfl (fun r3 => lj_cell 3 hL (by omega) rfl (fun r4 => lj_cell 4 hL (by omega) rfl (fun r5 => ⟨24, 368, by omega, by omega, lj_lawOf rfl⟩)))))
end
