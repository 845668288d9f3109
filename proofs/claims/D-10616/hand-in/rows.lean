section
/-! small facts about ints -/
theorem sp_neg {x : Int32} (h : x = -1) : x < 0 := by
  subst h
  decide
theorem sp_nneg {x : Int32} (h : x = -1) : ¬ 0 ≤ x := by
  subst h
  decide
theorem sp_le0 {x : Int32} (h : x = 0) : x ≤ 0 := by
  subst h
  decide
theorem sp_nle0 {x : Int32} (h : x = 1) : ¬ x ≤ 0 := by
  subst h
  decide
theorem sp_m1 {x : Int32} {n : Nat} (hx : x = -1) (h : n < 2 ^ 31) : ¬ x = nI n :=
  fun e => nI_pos h (e ▸ sp_neg hx)
theorem sp_pg {P V : Nat} : nI P * 16 + nI V = nI (P * 16 + V) := by
  show nI P * nI 16 + nI V = nI (P * 16 + V)
  rw [pk_mul, nI_add]
theorem sp_q4 {A B : Nat} : nI A * 4 + nI B = nI (A * 4 + B) := by
  show nI A * nI 4 + nI B = nI (A * 4 + B)
  rw [pk_mul, nI_add]
theorem sp_x4 {A : Nat} : nI A * 4 = nI (A * 4) := pk_mul A 4
theorem sp_rg {K : Nat} (h : K < 32) : nI K >>> ((2 : Int32) &&& 31) = nI (K / 4) :=
  pk_shrN (by omega) _ 2 (by decide)
theorem sp_an {K : Nat} (h : K < 32) : nI K &&& 3 = nI (K % 4) :=
  pk_andN (by omega) 2 (by decide)
theorem sp_fill {s : Nat → Int32} {i k : Nat} (hk : k = i) (h : ∀ j, j < i → s j = -1) : ∀ j, j < i + 1 → upd s k (-1) j = -1 := by
  intro j hj
  rw [hk]
  by_cases e : j = i
  · rw [e, pk_us]
  · rw [pk_un e]
    exact h j (by omega)
/-- the pair (p, v) names a page -/
def sp_ok (p v : Int32) : Prop := ¬ p < 0 ∧ ¬ 1 < p ∧ ¬ v < 0 ∧ ¬ 15 < v
/-- a place 0..3 -/
def sp_wi (w : Int32) : Prop := ¬ w < 0 ∧ ¬ 3 < w
theorem sp_okN {p v : Int32} (h : sp_ok p v) : ∃ P V : Nat, P ≤ 1 ∧ V ≤ 15 ∧ p = nI P ∧ v = nI V := by
  obtain ⟨h1, h2, h3, h4⟩ := h
  obtain ⟨P, hP, eP⟩ := nI_of2 (M := 1) (n := 1) rfl h1 (Int32.not_lt.mp h2)
  obtain ⟨V, hV, eV⟩ := nI_of2 (M := 15) (n := 15) rfl h3 (Int32.not_lt.mp h4)
  exact ⟨P, V, hP, hV, eP, eV⟩
theorem sp_wiN {w : Int32} (h : sp_wi w) : ∃ W : Nat, W ≤ 3 ∧ w = nI W :=
  nI_of2 (M := 3) (n := 3) rfl h.1 (Int32.not_lt.mp h.2)
/-! the new object -/
section
variable {post : St2 → Prop} {mc ms kc ks : Nat} {f : Int32} {a1 a2 a3 a4 a5 a6 a7 a8 : Nat → Int32}
theorem sp_i109 (H : ∀ b6 : Nat → Int32, (∀ j, j < 4 → b6 j = -1) → post (f, a1, a2, a3, a4, a5, b6, a7, a8)) :
    ∃ n, wX_init_109 post mc ms kc ks f n 0 a1 a2 a3 a4 a5 a6 a7 a8 :=
  pk_loop (fun n i s => wX_init_109 post mc ms kc ks f n (nI i) a1 a2 a3 a4 a5 s a7 a8) (fun i s => ∀ j, j < i → s j = -1) 4 0 a6 (by omega) (fun j hj => absurd hj (by omega))
    (fun n s h => pk_le 4 4 (fun _ => H s h) (fun z => absurd z (by omega)))
    (fun n i s hi h hw => pk_le 4 i (fun z => absurd z (by omega)) (fun _ => ⟨pk_in i 4 hi, nm_e (nm_r (nI_1 i) (hw _ (sp_fill (nI_clamp (by omega)) h)))⟩))
theorem sp_i88 (H : ∀ b5 b6 : Nat → Int32, (∀ j, j < 8 → b5 j = -1) → (∀ j, j < 4 → b6 j = -1) → post (f, a1, a2, a3, a4, b5, b6, a7, a8)) :
    ∃ n, wX_init_88 post mc ms kc ks f n 0 a1 a2 a3 a4 a5 a6 a7 a8 :=
  pk_loop (fun n i s => wX_init_88 post mc ms kc ks f n (nI i) a1 a2 a3 a4 s a6 a7 a8) (fun i s => ∀ j, j < i → s j = -1) 8 0 a5 (by omega) (fun j hj => absurd hj (by omega))
    (fun n s h => pk_le 8 8 (fun _ => sp_i109 (fun b6 h6 => H s b6 h h6)) (fun z => absurd z (by omega)))
    (fun n i s hi h hw => pk_le 8 i (fun z => absurd z (by omega)) (fun _ => ⟨pk_in i 8 hi, nm_e (nm_r (nI_1 i) (hw _ (sp_fill (nI_clamp (by omega)) h)))⟩))
theorem sp_i67 (H : ∀ b3 b5 b6 : Nat → Int32, (∀ j, j < 32 → b3 j = -1) → (∀ j, j < 8 → b5 j = -1) → (∀ j, j < 4 → b6 j = -1) → post (f, a1, a2, b3, a4, b5, b6, a7, a8)) :
    ∃ n, wX_init_67 post mc ms kc ks f n 0 a1 a2 a3 a4 a5 a6 a7 a8 :=
  pk_loop (fun n i s => wX_init_67 post mc ms kc ks f n (nI i) a1 a2 s a4 a5 a6 a7 a8) (fun i s => ∀ j, j < i → s j = -1) 32 0 a3 (by omega) (fun j hj => absurd hj (by omega))
    (fun n s h => pk_le 32 32 (fun _ => sp_i88 (fun b5 b6 h5 h6 => H s b5 b6 h h5 h6)) (fun z => absurd z (by omega)))
    (fun n i s hi h hw => pk_le 32 i (fun z => absurd z (by omega)) (fun _ => ⟨pk_in i 32 hi, nm_e (nm_r (nI_1 i) (hw _ (sp_fill (nI_clamp (by omega)) h)))⟩))
theorem sp_init (H : ∀ b3 b5 b6 : Nat → Int32, (∀ j, j < 32 → b3 j = -1) → (∀ j, j < 8 → b5 j = -1) → (∀ j, j < 4 → b6 j = -1) → post (f, (fun _ => 0), (fun _ => 0), b3, (fun _ => 0), b5, b6, (fun _ => 0), (fun _ => 0))) :
    wpX_init post 8 164 f := by
  unfold wpX_init
  exact ⟨by omega, by omega, by omega, by omega, by omega, by omega, by omega, by omega, by omega, by omega, by omega, by omega, by omega, by omega, by omega, by omega, sp_i67 H⟩
end
end
section
/-! the methods that only look: over any state, or over one whose arrays are as stated -/
section
variable {post : Int32 → Prop} {f : Int32} {a1 a2 a3 a4 a5 a6 a7 a8 : Nat → Int32}
theorem sp_bad {p v : Int32} (h1 : sp_ok p v → post 0) (h0 : ¬ sp_ok p v → post 1) : wpX_bad post (f, a1, a2, a3, a4, a5, a6, a7, a8) p v :=
  br_c (fun z => h0 (fun t => t.1 z)) (fun z1 => br_c (fun z => h0 (fun t => t.2.1 z)) (fun z2 => br_c (fun z => h0 (fun t => t.2.2.1 z)) (fun z3 =>
    br_c (fun z => h1 ⟨z1, z2, z3, Int32.not_lt.mpr z⟩) (fun z => h0 (fun t => z (Int32.not_lt.mp t.2.2.2))))))
theorem sp_fo {x r : Int32} (K : Nat) (hx : x = nI K) (hK : K < 32) (h5 : ∀ j, j < 8 → a5 j = -1) (hr : a3 K = r) (H : post r) : wpX_frameOf post (f, a1, a2, a3, a4, a5, a6, a7, a8) x := by
  subst hx
  subst hr
  have e := sp_rg hK
  have c1 : (nI (K / 4)).toNatClampNeg = K / 4 := nI_clamp (by omega)
  have c2 : (nI K).toNatClampNeg = K := nI_clamp (by omega)
  unfold wpX_frameOf
  dsimp only
  rw [e, c1, c2]
  exact ⟨vp_in_nI (by omega) (by omega), nm_r (h5 _ (by omega)) (br_t (sp_neg rfl) ⟨vp_in_nI hK (by omega), H⟩)⟩
theorem sp_hb {x : Int32} (R : Nat) (hx : x = nI R) (hR : R < 8) (h6 : ∀ j, j < 4 → a6 j = -1) (H : post (-1)) : wpX_heldBy post (f, a1, a2, a3, a4, a5, a6, a7, a8) x := by
  subst hx
  exact pk_loop (σ := Unit) (fun n i _ => wX_heldBy_4 post (nI R) f a1 a2 a3 a4 a5 a6 a7 a8 n (-1) (nI i)) (fun _ _ => True) 4 0 () (by omega) trivial
    (fun n _ _ => pk_le 4 4 (fun _ => H) (fun z => absurd z (by omega)))
    (fun n i _ hi _ hw => pk_le 4 i (fun z => absurd z (by omega)) (fun _ => ⟨pk_in i 4 hi, br_f (sp_m1 (by rw [nI_clamp (by omega)]; exact h6 i hi) (by omega)) (nm_r (nI_1 i) (hw () trivial))⟩))
theorem sp_ui {x : Int32} (G : Nat) (hx : x = nI G) (hG : G < 4) (h2 : ∀ j, a2 j = 0) (H : post 0) : wpX_usedIn post (f, a1, a2, a3, a4, a5, a6, a7, a8) x := by
  subst hx
  exact pk_loop (σ := Unit) (fun n i _ => wX_usedIn_4 post (nI G) f a1 a2 a3 a4 a5 a6 a7 a8 n 0 (nI i)) (fun _ _ => True) 4 0 () (by omega) trivial
    (fun n _ _ => pk_le 4 4 (fun _ => H) (fun z => absurd z (by omega)))
    (fun n i _ hi _ hw => pk_le 4 i (fun z => absurd z (by omega)) (fun _ => ⟨pk_in (G * 4 + i) 16 (by omega) sp_q4, br_t (sp_le0 (h2 _)) (nm_r (nI_1 i) (hw () trivial))⟩))
theorem sp_eg (h2 : ∀ j, a2 j = 0) (h6 : ∀ j, j < 4 → a6 j = -1) (H : post 0) : wpX_emptyGroup post (f, a1, a2, a3, a4, a5, a6, a7, a8) := by
  unfold wpX_emptyGroup
  dsimp only
  exact ⟨0 + 1, pk_le 4 0 (fun z => absurd z (by omega)) (fun _ => sp_ui 0 rfl (by omega) h2 (br_t rfl ⟨pk_in 0 4 (by omega), br_f (sp_nneg ((congrArg a6 (pk_cl 0)).trans (h6 0 (by omega)))) H⟩))⟩
theorem sp_fi0 (h2 : ∀ j, a2 j = 0) (H : post 0) : wpX_framesInUse post (f, a1, a2, a3, a4, a5, a6, a7, a8) :=
  pk_loop (σ := Unit) (fun n i _ => wX_framesInUse_4 post f a1 a2 a3 a4 a5 a6 a7 a8 n 0 (nI i)) (fun _ _ => True) 16 0 () (by omega) trivial
    (fun n _ _ => pk_le 16 16 (fun _ => H) (fun z => absurd z (by omega)))
    (fun n i _ hi _ hw => pk_le 16 i (fun z => absurd z (by omega)) (fun _ => ⟨pk_in i 16 hi, br_t (sp_le0 (h2 _)) (nm_r (nI_1 i) (hw () trivial))⟩))
/-- one frame in use, frame c -/
theorem sp_fi1 (c : Nat) (hc : c < 16) (h1 : a2 c = 1) (h2 : ∀ j, j ≠ c → a2 j = 0) (H : post 1) : wpX_framesInUse post (f, a1, a2, a3, a4, a5, a6, a7, a8) := by
  refine pk_loop (σ := Int32) (fun n i s => wX_framesInUse_4 post f a1 a2 a3 a4 a5 a6 a7 a8 n s (nI i)) (fun i s => s = nI (if c < i then 1 else 0)) 16 0 0 (by omega) ?_ ?_ ?_
  · show (0 : Int32) = nI (if c < 0 then 1 else 0)
    rw [if_neg (by omega)]
    rfl
  · intro n s h
    have h' : s = nI (if c < 16 then 1 else 0) := h
    rw [if_pos hc] at h'
    subst h'
    exact pk_le 16 16 (fun _ => H) (fun z => absurd z (by omega))
  · intro n i s hi h hw
    have h' : s = nI (if c < i then 1 else 0) := h
    refine pk_le 16 i (fun z => absurd z (by omega)) (fun _ => ⟨pk_in i 16 hi, ?_⟩)
    by_cases e : i = c
    · refine br_f (sp_nle0 (by rw [nI_clamp (by omega), e]; exact h1)) (nm_e (nm_r (nI_1 i) (hw _ ?_)))
      show s + 1 = nI (if c < i + 1 then 1 else 0)
      rw [h', if_neg (by omega), if_pos (by omega)]
      rfl
    · refine br_t (sp_le0 (by rw [nI_clamp (by omega)]; exact h2 i e)) (nm_r (nI_1 i) (hw _ ?_))
      show s = nI (if c < i + 1 then 1 else 0)
      rw [h']
      by_cases l : c < i
      · rw [if_pos l, if_pos (by omega)]
      · rw [if_neg l, if_neg (by omega)]
theorem sp_iu0 (h2 : ∀ j, a2 j = 0) (H : post 0) : wpX_inUse post (f, a1, a2, a3, a4, a5, a6, a7, a8) := by
  unfold wpX_inUse
  dsimp only
  exact sp_fi0 h2 H
theorem sp_iu1 (c : Nat) (hc : c < 16) (h1 : a2 c = 1) (h2 : ∀ j, j ≠ c → a2 j = 0) (H : post 1) : wpX_inUse post (f, a1, a2, a3, a4, a5, a6, a7, a8) := by
  unfold wpX_inUse
  dsimp only
  exact sp_fi1 c hc h1 h2 H
end
end
section
/-! the calls over the new object that change nothing -/
section
variable {post : Int32 → St2 → Prop} {f : Int32} {a1 a2 a3 a4 a5 a6 a7 a8 : Nat → Int32} {p v u x : Int32}
theorem sp_unmap (h3 : ∀ j, j < 32 → a3 j = -1) (h5 : ∀ j, j < 8 → a5 j = -1)
    (H : ∀ r : Int32, (sp_ok p v → r = -3) → (¬ sp_ok p v → r = -1) → post r (f, a1, a2, a3, a4, a5, a6, a7, a8)) : wpX_unmap post (f, a1, a2, a3, a4, a5, a6, a7, a8) p v := by
  unfold wpX_unmap
  dsimp only
  refine sp_bad (fun h => br_t rfl ?_) (fun h => br_f (by decide) (H _ (fun z => absurd z h) (fun _ => rfl)))
  obtain ⟨P, V, hP, hV, e1, e2⟩ := sp_okN h
  exact sp_fo (P * 16 + V) (by rw [e1, e2]; exact sp_pg) (by omega) h5 (h3 _ (by omega)) (br_f (sp_nneg rfl) (H _ (fun _ => rfl) (fun z => absurd h z)))
theorem sp_protect (h3 : ∀ j, j < 32 → a3 j = -1) (h5 : ∀ j, j < 8 → a5 j = -1)
    (H : ∀ r : Int32, (sp_ok p v → r = -3) → (¬ sp_ok p v → r = -1) → post r (f, a1, a2, a3, a4, a5, a6, a7, a8)) : wpX_protect post (f, a1, a2, a3, a4, a5, a6, a7, a8) p v x := by
  unfold wpX_protect
  dsimp only
  refine sp_bad (fun h => br_t rfl (nm_e ?_)) (fun h => br_f (by decide) (H _ (fun z => absurd z h) (fun _ => rfl)))
  obtain ⟨P, V, hP, hV, e1, e2⟩ := sp_okN h
  exact sp_fo (P * 16 + V) (by rw [e1, e2]; exact sp_pg) (by omega) h5 (h3 _ (by omega)) (br_f (sp_nneg rfl) (H _ (fun _ => rfl) (fun z => absurd h z)))
theorem sp_ur {P V U : Nat} (hP : P ≤ 1) (hV : V ≤ 15) (hU : U ≤ 15) (h3 : ∀ j, j < 32 → a3 j = -1) (h5 : ∀ j, j < 8 → a5 j = -1)
    (H : post 0 (f, a1, a2, a3, a4, a5, a6, a7, a8)) : ∃ n, wX_unmapRange_26 post (nI P) (nI U) n 0 (nI V) f a1 a2 a3 a4 a5 a6 a7 a8 :=
  pk_loop (σ := Unit) (fun n i _ => wX_unmapRange_26 post (nI P) (nI U) n 0 (nI i) f a1 a2 a3 a4 a5 a6 a7 a8) (fun _ _ => True) (max V (U + 1)) V () (by omega) trivial
    (fun n _ _ => pk_lt U (max V (U + 1)) (fun _ => H) (fun z => absurd z (by omega)))
    (fun n i _ hi _ hw => pk_lt U i (fun _ => H) (fun z => sp_fo (P * 16 + i) sp_pg (by omega) h5 (h3 _ (by omega)) (br_t (sp_neg rfl) (nm_r (nI_1 i) (hw () trivial)))))
theorem sp_range (h3 : ∀ j, j < 32 → a3 j = -1) (h5 : ∀ j, j < 8 → a5 j = -1)
    (H : ∀ r : Int32, (sp_ok p v → sp_ok p u → r = 0) → (¬ (sp_ok p v ∧ sp_ok p u) → r = -1) → post r (f, a1, a2, a3, a4, a5, a6, a7, a8)) : wpX_unmapRange post (f, a1, a2, a3, a4, a5, a6, a7, a8) p v u := by
  unfold wpX_unmapRange
  dsimp only
  refine sp_bad (fun h => br_t rfl (sp_bad (fun g => br_t rfl ?_) (fun g => br_f (by decide) (H _ (fun _ z => absurd z g) (fun _ => rfl))))) (fun h => br_f (by decide) (H _ (fun z => absurd z h) (fun _ => rfl)))
  obtain ⟨P, V, hP, hV, e1, e2⟩ := sp_okN h
  obtain ⟨P', U, hP', hU, e1', e3⟩ := sp_okN g
  have Hz := H 0 (fun _ _ => rfl) (fun z => absurd ⟨h, g⟩ z)
  rw [e1, e2, e3]
  exact sp_ur hP hV hU h3 h5 Hz
end
end
section
/-! a frame for a page of the new object: page K gets frame K % 4; what the other arrays hold behind it isn't said -/
section
variable {f : Int32} {a1 a2 a3 a4 a5 a6 a7 a8 : Nat → Int32}
theorem sp_tf {post : Int32 → St2 → Prop} (K : Nat) (hK : K < 32) (h2 : ∀ j, a2 j = 0) (h6 : ∀ j, j < 4 → a6 j = -1)
    (H : ∀ (g : Int32) (b6 b7 : Nat → Int32), post (nI (K % 4)) (g, a1, a2, a3, a4, a5, b6, b7, a8)) : wpX_takeFrame post (f, a1, a2, a3, a4, a5, a6, a7, a8) (nI K) := by
  have e : (0 : Int32) * 4 + (nI K &&& 3) = nI (K % 4) := by
    rw [sp_an hK]
    show nI 0 * 4 + nI (K % 4) = nI (K % 4)
    rw [sp_q4]
    show nI (0 * 4 + K % 4) = nI (K % 4)
    rw [Nat.zero_mul, Nat.zero_add]
  unfold wpX_takeFrame
  dsimp only
  refine nm_r (sp_rg hK) (sp_hb (K / 4) rfl (by omega) h6 (br_f (by decide) (sp_eg h2 h6 (br_f (by decide) ⟨pk_in 0 4 (by omega), nm_e ?_⟩))))
  unfold wX_takeFrame_30
  rw [e]
  exact br_f (by decide) ⟨vp_in_nI (by omega) (by omega), br_t (h2 _) (nm_e ⟨pk_in 0 4 (by omega), nm_e (H _ _ _)⟩)⟩
theorem sp_p22 {post : St2 → Prop} {x1 x3 x4 : Int32} {n : Nat} (F i : Nat) (hi : i < 4) (hF : F + i < 32) (h : a3 (F + i) = -1) (H : post (f, a1, a2, a3, a4, a5, a6, a7, a8)) :
    wX_promote_22 post x1 (nI F) f a1 a2 a3 a4 a5 a6 a7 a8 (n + 1) x3 x4 (nI i) :=
  pk_le 4 i (fun z => absurd z (by omega)) (fun _ => ⟨pk_in (F + i) 32 hF (nI_add F i), nm_r ((congrArg a3 (pk_cl (F + i) (nI_add F i))).trans h) (br_t (sp_neg rfl) H)⟩)
theorem sp_pr {post : St2 → Prop} {x : Int32} (K : Nat) (hK : K < 32) (hx : x = nI (K / 4)) (h2 : a2 (K % 4) = 1) (h3 : a3 K = nI (K % 4)) (h3' : ∀ j, j < 32 → j ≠ K → a3 j = -1)
    (h5 : ∀ j, j < 8 → a5 j = -1) (H : post (f, a1, a2, a3, a4, a5, a6, a7, a8)) : wpX_promote post (f, a1, a2, a3, a4, a5, a6, a7, a8) x := by
  subst hx
  unfold wpX_promote
  dsimp only
  refine ⟨vp_in_nI (by omega) (by omega), br_t (sp_neg ((congrArg a5 (pk_cl (K / 4))).trans (h5 _ (by omega)))) (nm_r sp_x4 ?_)⟩
  by_cases hc : K % 4 = 0
  · have eK : K / 4 * 4 = K := by omega
    rw [eK]
    rw [hc] at h2 h3
    have e0 : nI K + 0 = nI K := nI_add K 0
    have c0 : (nI K + 0).toNatClampNeg = K := by
      rw [e0]
      exact nI_clamp (by omega)
    have c1 : (nI K).toNatClampNeg = K := nI_clamp (by omega)
    have J : ∀ x3 x4 : Int32, wX_promote_22 post (nI (K / 4)) (nI K) f a1 a2 a3 a4 a5 a6 a7 a8 (0 + 1) x3 x4 (nI (0 + 1)) :=
      fun x3 x4 => sp_p22 K (0 + 1) (by omega) (by omega) (h3' _ (by omega) (by omega)) H
    refine ⟨0 + 1 + 1, pk_le 4 0 (fun z => absurd z (by omega)) (fun _ => ⟨pk_in K 32 hK e0, nm_r ((congrArg a3 c0).trans h3) (br_f (nI_pos (by omega)) ⟨pk_in 0 16 (by omega), br_t ((congrArg a2 (pk_cl 0)).trans h2)
      ⟨pk_in K 32 hK e0, pk_in K 32 hK, br_t ((congrArg a4 c0).trans (congrArg a4 c1).symm) (br_t rfl (nm_e ?_))⟩⟩)⟩)⟩
    exact br_f (by decide) (br_c (fun _ => nm_r (nI_1 0) (J _ _)) (fun _ => nm_r (nI_1 0) (J _ _)))
  · exact ⟨0 + 1, sp_p22 (K / 4 * 4) 0 (by omega) (by omega) (h3' _ (by omega) (by omega)) H⟩
/-- the tail of bringing a page in: its words are cleared, its frame is marked -/
theorem sp_b42 {post : Int32 → St2 → Prop} (K : Nat) (hK : K < 32) (h3 : ∀ j, j < 32 → a3 j = -1) (h5 : ∀ j, j < 8 → a5 j = -1)
    (H : ∀ b1 b4 : Nat → Int32, post 1 (f, b1, upd a2 (K % 4) 1, upd a3 K (nI (K % 4)), b4, a5, a6, a7, a8)) :
    ∃ n, wX_bringIn_42 post (nI K) (nI (K % 4)) f n 0 a1 a2 a3 a4 a5 a6 a7 a8 :=
  pk_loop (fun n i s => wX_bringIn_42 post (nI K) (nI (K % 4)) f n (nI i) s a2 a3 a4 a5 a6 a7 a8) (fun _ _ => True) 4 0 a1 (by omega) trivial
    (fun n s _ => pk_le 4 4 (fun _ => ⟨pk_in (K % 4) 16 (by omega), nm_r (congrArg (fun t => upd a2 t 1) (pk_cl (K % 4))) ⟨pk_in K 32 hK, nm_r (congrArg (fun t => upd a3 t (nI (K % 4))) (pk_cl K)) ⟨pk_in K 32 hK, nm_e
      (sp_pr K hK (sp_rg hK) pk_us pk_us (fun j hj hn => by rw [pk_un hn]; exact h3 j hj) h5 (H _ _))⟩⟩⟩) (fun z => absurd z (by omega)))
    (fun n i s hi _ hw => pk_le 4 i (fun z => absurd z (by omega)) (fun _ => ⟨pk_in (K % 4 * 4 + i) 64 (by omega) sp_q4, nm_e (nm_r (nI_1 i) (hw _ trivial))⟩))
theorem sp_bi {post : Int32 → St2 → Prop} {x : Int32} (K : Nat) (hx : x = nI K) (hK : K < 32) (h2 : ∀ j, a2 j = 0) (h3 : ∀ j, j < 32 → a3 j = -1) (h5 : ∀ j, j < 8 → a5 j = -1) (h6 : ∀ j, j < 4 → a6 j = -1)
    (H : ∀ (g : Int32) (b1 b4 b6 b7 : Nat → Int32), post 1 (g, b1, upd a2 (K % 4) 1, upd a3 K (nI (K % 4)), b4, a5, b6, b7, a8)) : wpX_bringIn post (f, a1, a2, a3, a4, a5, a6, a7, a8) x := by
  subst hx
  unfold wpX_bringIn
  dsimp only
  exact sp_fo K rfl hK h5 (h3 K hK) (br_t (sp_neg rfl) (sp_fi0 h2 (br_f (by decide) (sp_tf K hK h2 h6 (fun g b6 b7 => br_t (nI_pos' (by omega)) (sp_b42 K hK h3 h5 (fun b1 b4 => H g b1 b4 b6 b7)))))))
theorem sp_op {post : Int32 → St2 → Prop} {x : Int32} (K : Nat) (hx : x = nI K) (hK : K < 32) (h2 : ∀ j, a2 j = 0) (h3 : ∀ j, j < 32 → a3 j = -1) (h5 : ∀ j, j < 8 → a5 j = -1) (h6 : ∀ j, j < 4 → a6 j = -1)
    (H : ∀ (g : Int32) (b1 b4 b6 b7 : Nat → Int32), post 0 (g, b1, upd a2 (K % 4) 1, upd a3 K (nI (K % 4)), b4, a5, b6, b7, a8)) : wpX_open post (f, a1, a2, a3, a4, a5, a6, a7, a8) x := by
  unfold wpX_open
  dsimp only
  exact sp_fo K hx hK h5 (h3 K hK) (br_f (sp_nneg rfl) (sp_bi K hx hK h2 h3 h5 h6 (fun g b1 b4 b6 b7 => br_t (by decide) (H g b1 b4 b6 b7))))
theorem sp_wr {post : Int32 → St2 → Prop} {p v w x : Int32} (h2 : ∀ j, a2 j = 0) (h3 : ∀ j, j < 32 → a3 j = -1) (h5 : ∀ j, j < 8 → a5 j = -1) (h6 : ∀ j, j < 4 → a6 j = -1)
    (H1 : ∀ K W : Nat, K < 32 → W ≤ 3 → p * 16 + v = nI K → w = nI W → sp_ok p v → sp_wi w → ∀ (g : Int32) (b1 b4 b6 b7 : Nat → Int32), post 0 (g, upd b1 (K % 4 * 4 + W) x, upd a2 (K % 4) 1, upd a3 K (nI (K % 4)), b4, a5, b6, b7, a8))
    (H0 : ¬ (sp_ok p v ∧ sp_wi w) → post (-1) (f, a1, a2, a3, a4, a5, a6, a7, a8)) : wpX_write post (f, a1, a2, a3, a4, a5, a6, a7, a8) p v w x := by
  unfold wpX_write
  dsimp only
  refine sp_bad (fun h => br_t rfl (br_c (fun z => H0 (fun t => t.2.1 z)) (fun z1 => br_c (fun z2 => ?_) (fun z => H0 (fun t => z (Int32.not_lt.mp t.2.2)))))) (fun h => br_f (by decide) (H0 (fun t => h t.1)))
  have hw : sp_wi w := ⟨z1, Int32.not_lt.mpr z2⟩
  obtain ⟨P, V, hP, hV, e1, e2⟩ := sp_okN h
  obtain ⟨W, hW, e3⟩ := sp_wiN hw
  have eK : p * 16 + v = nI (P * 16 + V) := by
    rw [e1, e2]
    exact sp_pg
  have hK : P * 16 + V < 32 := by omega
  have eq : nI ((P * 16 + V) % 4) * 4 + w = nI ((P * 16 + V) % 4 * 4 + W) := by
    rw [e3]
    exact sp_q4
  exact sp_op (P * 16 + V) eK hK h2 h3 h5 h6 (fun g b1 b4 b6 b7 => br_t (by decide) (sp_fo (P * 16 + V) eK hK h5 pk_us ⟨pk_in _ 64 (by omega) eq, nm_r (congrArg (fun t => upd b1 t x) (pk_cl _ eq)) (H1 _ W hK hW eK e3 h hw g b1 b4 b6 b7)⟩))
end
section
variable {post : Int32 → Prop} {f : Int32} {a1 a2 a3 a4 a5 a6 a7 a8 : Nat → Int32} {p v w x : Int32}
theorem sp_rd0 (h : ¬ (sp_ok p v ∧ sp_wi w)) (H : post 0) : wpX_read post (f, a1, a2, a3, a4, a5, a6, a7, a8) p v w := by
  unfold wpX_read
  dsimp only
  exact sp_bad (fun g => br_t rfl (br_c (fun _ => H) (fun z1 => br_c (fun z2 => absurd ⟨g, z1, Int32.not_lt.mpr z2⟩ h) (fun _ => H)))) (fun _ => br_f (by decide) H)
theorem sp_rd1 (K W c : Nat) (hK : K < 32) (hW : W ≤ 3) (hc : c < 16) (eK : p * 16 + v = nI K) (ew : w = nI W) (g : sp_ok p v) (hw : sp_wi w) (h5 : ∀ j, j < 8 → a5 j = -1) (h3 : a3 K = nI c) (h1 : a1 (c * 4 + W) = x) (H : post x) :
    wpX_read post (f, a1, a2, a3, a4, a5, a6, a7, a8) p v w := by
  have eq : nI c * 4 + w = nI (c * 4 + W) := by
    rw [ew]
    exact sp_q4
  unfold wpX_read
  dsimp only
  refine sp_bad (fun _ => br_t rfl (br_f hw.1 (br_t (Int32.not_lt.mp hw.2) (sp_fo K eK hK h5 h3 (br_t (nI_pos' (by omega)) ⟨pk_in (c * 4 + W) 64 (by omega) eq, ?_⟩))))) (fun z => absurd g z)
  rw [pk_cl (c * 4 + W) eq, h1]
  exact H
end
end
section
/-! what the law says of the six answers -/
section
variable {post : Int32 → St0 → Prop} {mc ms kc ks : Nat} {p x1 x2 x3 x4 x6 x7 x8 x9 x10 x11 x13 x14 z : Int32}
theorem sp_182a (H : post 1 ()) : wL_lawOf_182 post mc ms x3 (-1) 0 0 0 z z kc ks :=
  br_t rfl (br_t rfl (br_t rfl (br_t rfl (br_t rfl (br_t rfl (br_t rfl H))))))
theorem sp_182b (H : post 1 ()) : wL_lawOf_182 post mc ms x3 0 x3 1 1 z z kc ks :=
  br_t rfl (br_f (by decide) (br_t rfl (br_f (by decide) (br_t rfl (br_f (by decide) (br_t rfl H))))))
theorem sp_155 (e : ¬ x4 < 0 → ¬ 15 < x4 → x8 = 0) (n : ¬ (¬ x4 < 0 ∧ ¬ 15 < x4) → x8 = -1) (H : ∀ z : Int32, wL_lawOf_182 post mc ms x3 x9 x10 x11 x14 z z kc ks) :
    wL_lawOf_155 post mc ms x3 x4 x8 x9 x10 x11 1 x14 (-3) (-3) kc ks := by
  refine br_t rfl (br_f (by decide) (br_c (fun z => ?_) (fun z1 => br_c (fun z => ?_) (fun z2 => ?_))))
  · rw [n (fun t => t.1 z)]
    exact H (-1)
  · rw [n (fun t => t.2 z)]
    exact H (-1)
  · rw [e z1 z2]
    exact H 0
theorem sp_124a (H : post 1 ()) : wL_lawOf_124 post mc ms x3 x4 (-1) (-1) (-1) (-1) 0 0 0 0 kc ks :=
  br_t rfl (br_t rfl (br_t rfl (br_t rfl (br_t rfl (sp_182a H)))))
theorem sp_124b (e : ¬ x4 < 0 → ¬ 15 < x4 → x8 = 0) (n : ¬ (¬ x4 < 0 ∧ ¬ 15 < x4) → x8 = -1) (H : post 1 ()) : wL_lawOf_124 post mc ms x3 x4 (-3) (-3) x8 (-1) 0 0 1 0 kc ks :=
  br_f (by decide) (br_t rfl (br_f (by decide) (sp_155 e n (fun _ => sp_182a H))))
theorem sp_124c (e : ¬ x4 < 0 → ¬ 15 < x4 → x8 = 0) (n : ¬ (¬ x4 < 0 ∧ ¬ 15 < x4) → x8 = -1) (H : post 1 ()) : wL_lawOf_124 post mc ms x3 x4 (-3) (-3) x8 0 x3 1 1 1 kc ks :=
  br_f (by decide) (br_t rfl (br_f (by decide) (sp_155 e n (fun _ => sp_182b H))))
theorem sp_102 (H : wL_lawOf_124 post mc ms x3 x4 x6 x7 x8 x9 x10 x11 0 0 kc ks) : wL_lawOf_102 post mc ms x2 x3 x4 x6 x7 x8 x9 x10 x11 kc ks :=
  br_t rfl H
theorem sp_80 (H : wL_lawOf_124 post mc ms x3 x4 x6 x7 x8 x9 x10 x11 0 0 kc ks) : wL_lawOf_80 post mc ms x1 x2 x3 x4 x6 x7 x8 x9 x10 x11 kc ks :=
  br_t rfl (sp_102 H)
theorem sp_103 (HP : ¬ sp_wi x2 → wL_lawOf_124 post mc ms x3 x4 x6 x7 x8 x9 x10 x11 1 0 kc ks) (HW : sp_wi x2 → wL_lawOf_124 post mc ms x3 x4 x6 x7 x8 x9 x10 x11 1 1 kc ks) : wL_lawOf_103 post mc ms x2 x3 x4 x6 x7 x8 x9 x10 x11 1 kc ks :=
  br_f (by decide) (br_c (fun z => HP (fun t => t.1 z)) (fun z1 => br_c (fun z => HP (fun t => t.2 z)) (fun z2 => HW ⟨z1, z2⟩)))
theorem sp_top (HN : ¬ sp_ok p x1 → wL_lawOf_124 post mc ms x3 x4 x6 x7 x8 x9 x10 x11 0 0 kc ks)
    (HP : sp_ok p x1 → ¬ sp_wi x2 → wL_lawOf_124 post mc ms x3 x4 x6 x7 x8 x9 x10 x11 1 0 kc ks)
    (HW : sp_ok p x1 → sp_wi x2 → wL_lawOf_124 post mc ms x3 x4 x6 x7 x8 x9 x10 x11 1 1 kc ks) :
    (p < 0 → wL_lawOf_80 post mc ms x1 x2 x3 x4 x6 x7 x8 x9 x10 x11 kc ks) ∧ (¬ p < 0 → ((1 < p → wL_lawOf_80 post mc ms x1 x2 x3 x4 x6 x7 x8 x9 x10 x11 kc ks) ∧ (¬ 1 < p → wL_lawOf_81 post mc ms x1 x2 x3 x4 x6 x7 x8 x9 x10 x11 1 kc ks))) :=
  br_c (fun z => sp_80 (HN (fun t => t.1 z))) (fun z1 => br_c (fun z => sp_80 (HN (fun t => t.2.1 z))) (fun z2 =>
    br_f (by decide) (br_c (fun z => sp_102 (HN (fun t => t.2.2.1 z))) (fun z3 => br_c (fun z => sp_102 (HN (fun t => t.2.2.2 z))) (fun z4 =>
      sp_103 (HP ⟨z1, z2, z3, z4⟩) (HW ⟨z1, z2, z3, z4⟩))))))
theorem sp_lawOf (v w x u : Int32) (H : post 1 ()) : wpL_lawOf post 9 173 () p v w x u := by
  refine ⟨by omega, by omega, 8, 164, by omega, by omega, sp_init (fun a3 a5 a6 h3 h5 h6 => ?_)⟩
  refine sp_unmap h3 h5 (fun r1 e1 n1 => sp_protect h3 h5 (fun r2 e2 n2 => sp_range h3 h5 (fun r3 e3 n3 => ?_)))
  have E3 : sp_ok p v → ¬ u < 0 → ¬ 15 < u → r3 = 0 := fun g a b => e3 g ⟨g.1, g.2.1, a, b⟩
  have N3 : sp_ok p v → ¬ (¬ u < 0 ∧ ¬ 15 < u) → r3 = -1 := fun g a => n3 (fun t => a ⟨t.2.2.2.1, t.2.2.2.2⟩)
  refine sp_wr (fun _ => rfl) h3 h5 h6 (fun K W hK hW eK ew g hw c b1 b4 b6 b7 => ?_) (fun hn => ?_)
  · refine sp_rd1 K W (K % 4) hK hW (by omega) eK ew g hw h5 pk_us pk_us (sp_iu1 (K % 4) (by omega) pk_us (fun j hj => pk_un hj) ?_)
    rw [e1 g, e2 g]
    exact sp_top (fun z => absurd g z) (fun _ z => absurd hw z) (fun _ _ => sp_124c (E3 g) (N3 g) H)
  · refine sp_rd0 hn (sp_iu0 (fun _ => rfl) ?_)
    refine sp_top (fun z => ?_) (fun g _ => ?_) (fun g hw => absurd ⟨g, hw⟩ hn)
    · rw [n1 z, n2 z, n3 (fun t => z t.1)]
      exact sp_124a H
    · rw [e1 g, e2 g]
      exact sp_124b (E3 g) (N3 g) H
end
theorem sp_cell {post : Int32 → Prop} {L : Nat} {xs : Nat → Int32} {y : Int32} (hL : L ≤ 5) (i : Nat) (hi : i < 5) (hy : y = nI i) (H : ∀ r : Int32, post r) : wpL_cellAt post L xs () y :=
  pk_le L i (fun _ => H _) (fun z => ⟨pk_in i L z hy, H _⟩) rfl hy
theorem i_vc (xs : Nat → Int32) (L : Nat) (hL : L ≤ 5) : wpL_law (fun r => r = 1) L xs := by
  unfold wpL_law
  exact sp_cell hL 0 (by omega) rfl (fun p => sp_cell hL 1 (by omega) rfl (fun v => sp_cell hL 2 (by omega) rfl (fun w => sp_cell hL 3 (by omega) rfl (fun x => sp_cell hL 4 (by omega) rfl (fun u =>
    ⟨9, 173, by omega, by omega, sp_lawOf v w x u rfl⟩)))))
end
