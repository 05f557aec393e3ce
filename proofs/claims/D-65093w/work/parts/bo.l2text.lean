/-! LAYER 2: the text of a value, on both sides -/
/-- rows that texts of values come to -/
def tV (v : Nat) : Bool := [34, 407, 520, 521, 522].contains v
theorem tV_B {v : Nat} (h : tV v = true) : ∃ L, vB v L ∧ 4200 ≤ L ∧ (v ≠ 131 ∧ v ≠ 132 ∧ v ≠ 129) := by
  simp only [tV, List.contains_cons, List.contains_nil, Bool.or_eq_true, beq_iff_eq, Bool.false_eq_true, or_false] at h
  rcases h with rfl | rfl | rfl | rfl | rfl
  · exact ⟨4200, ⟨rfl, rfl, by decide⟩, by decide, by decide⟩
  · exact ⟨8300, vB_407, by decide, by decide⟩
  · exact ⟨4200, vB_520, by decide, by decide⟩
  · exact ⟨4200, vB_521, by decide, by decide⟩
  · exact ⟨4200, vB_522, by decide, by decide⟩
/-- the serial of a value -/
def serX (σ : mS) (tx : Int32) (vx : Int64) : Int64 := if tx = 5 then sJ σ 196 vx.toInt32 else if tx = 6 then (if 0 ≤ vx.toInt32 then sJ σ 225 vx.toInt32 else sJ σ 519 (-1 - vx.toInt32)) else sJ σ 335 vx.toInt32
def TXT (σ : mS) (tx : Int32) (vx : Int64) (l : List Int32) : Prop :=
  (tx = 0 ∧ l = xtx 87) ∨ (tx = 1 ∧ l = xtx 101) ∨ (tx = 2 ∧ l = xtx 100) ∨ (tx = 3 ∧ numT vx l) ∨ (tx = 4 ∧ l = xL σ vx.toInt32) ∨ (5 ≤ tx ∧ tx ≤ 7 ∧ ∃ t, numT (serX σ tx vx) t ∧ l = mtx (tx.toNatClampNeg) ++ [58, 32] ++ t)
theorem TXT_one {σ : mS} {tx : Int32} {vx : Int64} {l l' : List Int32} (h : TXT σ tx vx l) (h' : TXT σ tx vx l') : l = l' := by
  rcases h with ⟨rfl, h⟩ | ⟨rfl, h⟩ | ⟨rfl, h⟩ | ⟨rfl, h⟩ | ⟨rfl, h⟩ | ⟨h0, h1, t, h2, h⟩
  all_goals rcases h' with ⟨q, k⟩ | ⟨q, k⟩ | ⟨q, k⟩ | ⟨q, k⟩ | ⟨q, k⟩ | ⟨q, q1, t', k2, k⟩
  all_goals first
    | exact h.trans k.symm
    | exact numT_one h k
    | (rw [h, k, numT_one h2 k2])
    | (exfalso; lia)
    | exact absurd q (by decide)
theorem TXT_fr {P : Nat → Bool} {σ τ : mS} {tx : Int32} {vx : Int64} {l : List Int32} (h : TXT σ tx vx l) (fr : m_fr P σ τ) (hp : ∀ k, (128 ≤ k ∧ k ≤ 132) ∨ k = 196 ∨ k = 225 ∨ k = 335 ∨ k = 519 → P k = false) : TXT τ tx vx l := by
  have e : serX τ tx vx = serX σ tx vx := by
    simp only [serX]
    rw [mf_J fr (hp 196 (by omega)), mf_J fr (hp 225 (by omega)), mf_J fr (hp 335 (by omega)), mf_J fr (hp 519 (by omega))]
  have e2 : ∀ a, xL τ a = xL σ a := fun a => xL_fr fr (fun k h1 h2 => hp k (.inl ⟨h1, h2⟩))
  simp only [TXT]
  rw [e, e2]
  exact h
theorem tx_87 : xtx 87 = mtx 1 := by decide +kernel
theorem tx_101 : xtx 101 = mtx 24 := by decide +kernel
theorem tx_100 : xtx 100 = mtx 25 := by decide +kernel
theorem tx_26 : mtx 5 ++ [58, 32] = mtx 26 := by decide +kernel
theorem tx_27 : mtx 6 ++ [58, 32] = mtx 27 := by decide +kernel
theorem tx_28 : mtx 7 ++ [58, 32] = mtx 28 := by decide +kernel
theorem tx_l1 : (xtx 87).length ≤ 100 ∧ (xtx 101).length ≤ 100 ∧ (xtx 100).length ≤ 100 ∧ (mtx 1).length ≤ 100 ∧ (mtx 24).length ≤ 100 ∧ (mtx 25).length ≤ 100 ∧ (mtx 26).length ≤ 100 ∧ (mtx 27).length ≤ 100 ∧ (mtx 28).length ≤ 100 ∧ (mtx 5).length ≤ 50 ∧ (mtx 6).length ≤ 50 ∧ (mtx 7).length ≤ 50 := by decide +kernel
theorem xL_len {σ : mS} {h : Int32} (h0 : 0 ≤ x_sz σ h) (h1 : x_sz σ h ≤ 4000) : (xL σ h).length ≤ 4000 := by
  rw [xL, bL_len]
  rw [tI_le] at h0 h1
  have z : (0 : Int32).toInt = 0 := rfl
  have z1 : (4000 : Int32).toInt = 4000 := rfl
  have := tI_cl (v := x_sz σ h)
  omega
/-- what is asked of a state -/
def TS (w : WD) (σ μ : mS) : Prop := RS w σ μ ∧ ZS w σ ∧ HO w σ μ ∧ (∀ a b, (a, b) ∈ wT w → 0 ≤ a ∧ a < 3000 ∧ 0 ≤ b ∧ b < 3000 ∧ sJ σ 196 a = Int32.toInt64 (sI μ 19 b)) ∧ (∀ a b, (a, b) ∈ wF w → 0 ≤ a ∧ a < 4000 ∧ 0 ≤ b ∧ b < 4100 ∧ sJ σ 225 a = Int32.toInt64 (sI μ 44 b)) ∧ (∀ a b, (a, b) ∈ wC w ∨ (a = 0 ∧ b = 120) → 0 ≤ a ∧ a < 121 ∧ 0 ≤ b ∧ b < 121 ∧ sJ σ 335 a = Int32.toInt64 (sI μ 157 b))
theorem TS_fr {P Q : Nat → Bool} {w : WD} {σ μ τ τm : mS} (H : TS w σ μ) (fr : m_fr P σ τ) (frm : m_fr Q μ τm) (hp : ∀ k, (128 ≤ k ∧ k ≤ 142) ∨ k = 196 ∨ k = 225 ∨ k = 335 ∨ (392 ≤ k ∧ k ≤ 395) ∨ k = 518 ∨ k = 519 ∨ (525 ≤ k ∧ k ≤ 527) → P k = false) (hq : ∀ k, (2 ≤ k ∧ k ≤ 15 ∧ k ≠ 11) ∨ k = 19 ∨ k = 44 ∨ k = 157 ∨ (191 ≤ k ∧ k ≤ 218) → Q k = false) : TS w τ τm := by
  obtain ⟨h1, h2, h3, h4, h5, h6⟩ := H
  have e44 : τm.2.2.1 44 = μ.2.2.1 44 := frm.2.2.1 44 (hq _ (by omega))
  refine ⟨RS_fr h1 fr frm (fun k a b => hp k (.inl ⟨a, b⟩)) (fun k a b c => hq k (.inl ⟨b, a, c⟩)), ZS_fr h2 fr (hp _ (by omega)), HO_fr h3 wle_rfl fr frm (fun k hk => hp k (by omega)) (fun k a b => hq k (by omega)) (fun a b _ => xL_fr fr (fun k h1 h2 => hp k (.inl ⟨h1, by omega⟩))) (fun k _ => by rw [e44]), fun a b h => ?_, fun a b h => ?_, fun a b h => ?_⟩
  · rw [mf_J fr (hp 196 (by omega)), mf_I frm (hq 19 (by omega))]; exact h4 a b h
  · rw [mf_J fr (hp 225 (by omega)), mf_I frm (hq 44 (by omega))]; exact h5 a b h
  · rw [mf_J fr (hp 335 (by omega)), mf_I frm (hq 157 (by omega))]; exact h6 a b h
theorem VV_ex {w : WD} {σ μ : mS} {tx tm : Int32} {vx vm : Int64} (H : TS w σ μ) (v : VV w tx vx tm vm) : ∃ l, TXT σ tx vx l ∧ l.length ≤ 4000 := by
  obtain ⟨l1, l2, l3, l4, l5, l6, l7, l8, l9, l10, l11, l12⟩ := tx_l1
  rcases v with ⟨rfl, _⟩ | ⟨rfl, _⟩ | ⟨rfl, _⟩ | ⟨rfl, _⟩ | ⟨rfl, _, a, b, v1, v2, v3⟩ | ⟨rfl, _⟩ | ⟨rfl, _⟩ | ⟨rfl, _⟩ | ⟨_, _, _, _, _, _, v⟩
  · exact ⟨_, .inl ⟨rfl, rfl⟩, by omega⟩
  · exact ⟨_, .inr (.inl ⟨rfl, rfl⟩), by omega⟩
  · exact ⟨_, .inr (.inr (.inl ⟨rfl, rfl⟩)), by omega⟩
  · obtain ⟨t, ht⟩ := numT_ex vx
    have := numT_len ht
    exact ⟨t, .inr (.inr (.inr (.inl ⟨rfl, ht⟩))), by omega⟩
  · refine ⟨_, .inr (.inr (.inr (.inr (.inl ⟨rfl, rfl⟩)))), ?_⟩
    rw [v1, h_ll]
    exact xL_len (RS_gs H.1 v3).1.1.2.2.2.1 (H.2.1 _ _ v3)
  · obtain ⟨t, ht⟩ := numT_ex (serX σ 5 vx)
    have := numT_len ht
    refine ⟨_, .inr (.inr (.inr (.inr (.inr ⟨by decide, by decide, t, ht, rfl⟩)))), ?_⟩
    show (mtx 5 ++ [58, 32] ++ t).length ≤ 4000
    simp only [List.length_append, List.length_cons, List.length_nil]; omega
  · obtain ⟨t, ht⟩ := numT_ex (serX σ 6 vx)
    have := numT_len ht
    refine ⟨_, .inr (.inr (.inr (.inr (.inr ⟨by decide, by decide, t, ht, rfl⟩)))), ?_⟩
    show (mtx 6 ++ [58, 32] ++ t).length ≤ 4000
    simp only [List.length_append, List.length_cons, List.length_nil]; omega
  · obtain ⟨t, ht⟩ := numT_ex (serX σ 7 vx)
    have := numT_len ht
    refine ⟨_, .inr (.inr (.inr (.inr (.inr ⟨by decide, by decide, t, ht, rfl⟩)))), ?_⟩
    show (mtx 7 ++ [58, 32] ++ t).length ≤ 4000
    simp only [List.length_append, List.length_cons, List.length_nil]; omega
  · exact v.elim
/-- the reference puts it -/
theorem putValue_m {N : Nat} (hN : BIG ≤ N) {w : WD} {σ μ : mS} {tx tm : Int32} {vx vm : Int64} (H : TS w σ μ) (v : VV w tx vx tm vm) {l l0 : List Int32} (hl : TXT σ tx vx l) (hb : bufL μ l0) (h0 : l0.length < 400000) : ∃ τ, mm_putValue N μ tm vm = some τ ∧ bufL τ (l0 ++ l) ∧ m_fr bK μ τ := by
  obtain ⟨l1, l2, l3, l4, l5, l6, l7, l8, l9, l10, l11, l12⟩ := tx_l1
  have ob : ∀ (t : Nat) (s : Int32) (r : List Int32), t < 76 → numT (Int32.toInt64 s) r → (mtx t).length ≤ 100 → ∃ z τ, mm_putText N μ t = some z ∧ m_fr bK μ z ∧ mm_putNumber N z (Int32.toInt64 s) = some τ ∧ bufL τ (l0 ++ (mtx t ++ r)) ∧ m_fr bK μ τ := fun t s r ht hr hlen => by
    obtain ⟨z, z1, z2, z3⟩ := putText_m hN ht hb (by omega)
    obtain ⟨τ, y1, y2, y3⟩ := putNumber_m hN hr z2 (by simp only [List.length_append]; omega)
    exact ⟨z, τ, z1, z3, y1, by rw [List.append_assoc] at y2; exact y2, mf_tr z3 y3⟩
  rcases v with ⟨rfl, rfl, rfl, rfl⟩ | ⟨rfl, rfl, rfl, rfl⟩ | ⟨rfl, rfl, rfl, rfl⟩ | ⟨rfl, rfl, rfl⟩ | ⟨rfl, rfl, a, b, rfl, rfl, v3⟩ | ⟨rfl, rfl, a, b, rfl, rfl, v3⟩ | ⟨rfl, rfl, a, b, rfl, rfl, v3⟩ | ⟨rfl, rfl, a, b, rfl, rfl, v3⟩ | ⟨_, _, _, _, _, _, v⟩
  · have e := TXT_one hl (.inl ⟨rfl, rfl⟩)
    rw [e, tx_87]
    obtain ⟨z, z1, z2, z3⟩ := putText_m hN (t := 1) (by decide) hb (by omega)
    refine ⟨z, ?_, z2, z3⟩
    simp (disch := decide) only [mm_putValue, lt, gd_in, if_pos, if_neg, ↓reduceIte, gd_z0, gd_z1, gd_tt, sF_fold, sG_fold, sI_fold, sJ_fold, mm_putValue_149, z1, bd_so]
  · have e := TXT_one hl (.inr (.inl ⟨rfl, rfl⟩))
    rw [e, tx_101]
    obtain ⟨z, z1, z2, z3⟩ := putText_m hN (t := 24) (by decide) hb (by omega)
    refine ⟨z, ?_, z2, z3⟩
    simp (disch := decide) only [mm_putValue, mm_putValue_70, lgc_eq, lt, gd_in, if_pos, if_neg, ↓reduceIte, gd_z0, gd_z1, gd_tt, sF_fold, sG_fold, sI_fold, sJ_fold, mm_putValue_149, z1, bd_so]
  · have e := TXT_one hl (.inr (.inr (.inl ⟨rfl, rfl⟩)))
    rw [e, tx_100]
    obtain ⟨z, z1, z2, z3⟩ := putText_m hN (t := 25) (by decide) hb (by omega)
    refine ⟨z, ?_, z2, z3⟩
    simp (disch := decide) only [mm_putValue, mm_putValue_70, lgc_eq, lt, gd_in, if_pos, if_neg, ↓reduceIte, gd_z0, gd_z1, gd_tt, sF_fold, sG_fold, sI_fold, sJ_fold, mm_putValue_149, z1, bd_so]
  · have hn : numT vx l := by
      obtain ⟨t, ht⟩ := numT_ex vx
      rw [TXT_one hl (.inr (.inr (.inr (.inl ⟨rfl, ht⟩))))]; exact ht
    obtain ⟨z, z1, z2, z3⟩ := putNumber_m hN hn hb (by omega)
    refine ⟨z, ?_, z2, z3⟩
    simp (disch := decide) only [mm_putValue, lt, gd_in, if_pos, if_neg, ↓reduceIte, gd_z0, gd_z1, gd_tt, sF_fold, sG_fold, sI_fold, sJ_fold, mm_putValue_149, z1, bd_so]
  · have e := TXT_one hl (.inr (.inr (.inr (.inr (.inl ⟨rfl, rfl⟩)))))
    rw [h_ll] at e
    have gg := RS_gs H.1 v3
    rw [e, RS_L H.1 v3]
    obtain ⟨z, z1, z2, z3⟩ := putString_m hN gg.2.1 hb (by omega)
    refine ⟨z, ?_, z2, z3⟩
    have sv1 : 0 ≤ b := gg.2.1.1
    have sv2 : b < 42000 := gg.2.1.2.1
    simp only [m_sz] at z1
    simp (disch := first | decide | assumption) only [mm_putValue, lt, gd_in, if_pos, if_neg, ↓reduceIte, gd_z0, gd_z1, gd_tt, sF_fold, sG_fold, sI_fold, sJ_fold, mm_putValue_149, h_ll, z1, bd_so]
  · obtain ⟨t1, t2, t3, t4, t5⟩ := H.2.2.2.1 a b v3
    obtain ⟨r, hr⟩ := numT_ex (Int32.toInt64 (sI μ 19 b))
    have e := TXT_one hl (.inr (.inr (.inr (.inr (.inr ⟨by decide, by decide, r, by simp only [serX, h_ll, if_true]; rw [t5]; exact hr, rfl⟩)))))
    rw [e]
    obtain ⟨z, τ, z1, z2, z3, z4, z5⟩ := ob 26 _ r (by decide) hr (by omega)
    refine ⟨τ, ?_, by show bufL τ (l0 ++ (mtx 5 ++ [58, 32] ++ r)); rw [tx_26]; exact z4, z5⟩
    have e19 : ∀ b, sI z 19 b = sI μ 19 b := fun b => mf_I z2 rfl
    simp (disch := first | decide | assumption) only [mm_putValue, mm_putValue_102, mm_putValue_146, lt, gd_in, if_pos, if_neg, ↓reduceIte, gd_z0, gd_z1, gd_tt, sF_fold, sG_fold, sI_fold, sJ_fold, mm_putValue_149, h_ll, z1, bd_so, e19, z3]
  · have cs : 0 ≤ b ∧ b < 4100 ∧ serX σ 6 (Int32.toInt64 a) = Int32.toInt64 (sI μ 44 b) := by
      rcases v3 with v3 | ⟨b0, b1, ea⟩
      · obtain ⟨t1, t2, t3, t4, t5⟩ := H.2.2.2.2.1 a b v3
        refine ⟨t3, t4, ?_⟩
        simp (disch := decide) only [serX, h_ll, if_neg]
        rw [if_true, if_pos t1]; exact t5
      · refine ⟨b0, by lia, ?_⟩
        simp (disch := decide) only [serX, h_ll, if_neg]
        rw [if_true, if_neg (by lia), show -1 - a = b by lia]
        have := H.2.2.1.2.2.2.2.2.2.2.2 b.toNatClampNeg (by have := cl_lt' b0 b1; exact this)
        exact this
    obtain ⟨t3, t4, t5⟩ := cs
    obtain ⟨r, hr⟩ := numT_ex (Int32.toInt64 (sI μ 44 b))
    have e := TXT_one hl (.inr (.inr (.inr (.inr (.inr ⟨by decide, by decide, r, by rw [t5]; exact hr, rfl⟩)))))
    rw [e]
    obtain ⟨z, τ, z1, z2, z3, z4, z5⟩ := ob 27 _ r (by decide) hr (by omega)
    refine ⟨τ, ?_, by show bufL τ (l0 ++ (mtx 6 ++ [58, 32] ++ r)); rw [tx_27]; exact z4, z5⟩
    have e19 : ∀ b, sI z 44 b = sI μ 44 b := fun b => mf_I z2 rfl
    simp (disch := first | decide | assumption) only [mm_putValue, mm_putValue_102, mm_putValue_146, lt, gd_in, if_pos, if_neg, ↓reduceIte, gd_z0, gd_z1, gd_tt, sF_fold, sG_fold, sI_fold, sJ_fold, mm_putValue_149, h_ll, z1, bd_so, e19, z3]
  · obtain ⟨t1, t2, t3, t4, t5⟩ := H.2.2.2.2.2 a b v3
    obtain ⟨r, hr⟩ := numT_ex (Int32.toInt64 (sI μ 157 b))
    have e := TXT_one hl (.inr (.inr (.inr (.inr (.inr ⟨by decide, by decide, r, by
      simp (disch := decide) only [serX, h_ll, if_neg]; rw [t5]; exact hr, rfl⟩)))))
    rw [e]
    obtain ⟨z, τ, z1, z2, z3, z4, z5⟩ := ob 28 _ r (by decide) hr (by omega)
    refine ⟨τ, ?_, by show bufL τ (l0 ++ (mtx 7 ++ [58, 32] ++ r)); rw [tx_28]; exact z4, z5⟩
    have e19 : ∀ b, sI z 157 b = sI μ 157 b := fun b => mf_I z2 rfl
    simp (disch := first | decide | assumption) only [mm_putValue, mm_putValue_102, mm_putValue_146, lt, gd_in, if_pos, if_neg, ↓reduceIte, gd_z0, gd_z1, gd_tt, sF_fold, sG_fold, sI_fold, sJ_fold, mm_putValue_149, h_ll, z1, bd_so, e19, z3]
  · exact v.elim
/-- the system's: digits or bytes -/
theorem text_L {N : Nat} (hN : BIG ≤ N) {σ : mS} {tx : Int32} {vx : Int64} {v p L : Nat} {l : List Int32} (hv : vB v L) (hne : v ≠ 131 ∧ v ≠ 132 ∧ v ≠ 129) (sv : tx = 4 → x_sv σ vx.toInt32) (h3 : tx = 3 ∨ tx = 4) (hl : TXT σ tx vx l) (hp : p + l.length ≤ L) : ∃ τ, xx6_text N σ tx vx v (Int32.ofNat p) = some (Int32.ofNat (p + l.length), τ) ∧ hasL (τ.2.2.1 v) p l ∧ xw v p l.length σ τ := by
  rcases h3 with rfl | rfl
  · have hn : numT vx l := by
      obtain ⟨t, ht⟩ := numT_ex vx
      rw [TXT_one hl (.inr (.inr (.inr (.inl ⟨rfl, ht⟩))))]; exact ht
    obtain ⟨τ, a1, a2, a3⟩ := digits_L hN hn hv hp
    refine ⟨τ, ?_, a2, a3⟩
    simp (disch := decide) only [xx6_text, xx6_text_b29, lt, gd_in, if_pos, if_neg, ↓reduceIte, gd_z0, gd_z1, gd_tt, sF_fold, sG_fold, sI_fold, sJ_fold, a1, bd_so]
  · have e := TXT_one hl (.inr (.inr (.inr (.inr (.inl ⟨rfl, rfl⟩)))))
    rw [e] at hp ⊢
    obtain ⟨τ, a1, a2, a3⟩ := copy_L (N := N) (sv rfl) hv hne hp
    refine ⟨τ, ?_, a2, a3⟩
    simp (disch := decide) only [xx6_text, xx6_text_b29, lt, gd_in, if_pos, if_neg, ↓reduceIte, gd_z0, gd_z1, gd_tt, sF_fold, sG_fold, sI_fold, sJ_fold, a1, bd_so]
/-- the text of any value -/
theorem textOf_x {N : Nat} (hN : BIG ≤ N) {w : WD} {σ μ : mS} {tx tm : Int32} {vx vm : Int64} (H : TS w σ μ) (va : VV w tx vx tm vm) {v p L : Nat} {l : List Int32} (ht : tV v = true) (hv : vB v L) (hl : TXT σ tx vx l) (hp : p + l.length ≤ L) : ∃ τ, xx8_textOf N σ tx vx v (Int32.ofNat p) = some (Int32.ofNat (p + l.length), τ) ∧ hasL (τ.2.2.1 v) p l ∧ xw v p l.length σ τ := by
  obtain ⟨L', _, _, hne⟩ := tV_B ht
  have asc : ∀ t, t < 141 → l = xtx t → ∃ τ, xx6_ascii N σ (3000 + t) v (Int32.ofNat p) = some (Int32.ofNat (p + l.length), τ) ∧ hasL (τ.2.2.1 v) p l ∧ xw v p l.length σ τ := fun t h e => by
    subst e; exact ascii_L hN h hv hp
  by_cases c0 : tx = 0
  · subst c0
    obtain ⟨τ, a1, a2, a3⟩ := asc 87 (by decide) (TXT_one hl (.inl ⟨rfl, rfl⟩))
    refine ⟨τ, ?_, a2, a3⟩
    simp (disch := decide) only [xx8_textOf, lt, gd_in, if_pos, if_neg, ↓reduceIte, gd_z0, gd_z1, gd_tt, sF_fold, sG_fold, sI_fold, sJ_fold, a1, bd_so]
  by_cases c1 : tx = 1
  · subst c1
    obtain ⟨τ, a1, a2, a3⟩ := asc 101 (by decide) (TXT_one hl (.inr (.inl ⟨rfl, rfl⟩)))
    refine ⟨τ, ?_, a2, a3⟩
    simp (disch := decide) only [xx8_textOf, lt, gd_in, if_pos, if_neg, ↓reduceIte, gd_z0, gd_z1, gd_tt, sF_fold, sG_fold, sI_fold, sJ_fold, a1, bd_so]
  by_cases c2 : tx = 2
  · subst c2
    obtain ⟨τ, a1, a2, a3⟩ := asc 100 (by decide) (TXT_one hl (.inr (.inr (.inl ⟨rfl, rfl⟩))))
    refine ⟨τ, ?_, a2, a3⟩
    simp (disch := decide) only [xx8_textOf, lt, gd_in, if_pos, if_neg, ↓reduceIte, gd_z0, gd_z1, gd_tt, sF_fold, sG_fold, sI_fold, sJ_fold, a1, bd_so]
  by_cases c3 : tx = 3
  · subst c3
    obtain ⟨τ, a1, a2, a3⟩ := text_L hN hv hne (fun q => absurd q (by decide)) (.inl rfl) hl hp
    refine ⟨τ, ?_, a2, a3⟩
    simp (disch := decide) only [xx8_textOf, lt, gd_in, if_pos, if_neg, ↓reduceIte, gd_z0, gd_z1, gd_tt, sF_fold, sG_fold, sI_fold, sJ_fold, a1, bd_so]
  by_cases c4 : tx = 4
  · subst c4
    have sv : x_sv σ vx.toInt32 := (RS_gs H.1 (VV_str va (.inl rfl))).1.1
    obtain ⟨τ, a1, a2, a3⟩ := text_L hN hv hne (fun _ => sv) (.inr rfl) hl hp
    refine ⟨τ, ?_, a2, a3⟩
    simp (disch := decide) only [xx8_textOf, lt, gd_in, if_pos, if_neg, ↓reduceIte, gd_z0, gd_z1, gd_tt, sF_fold, sG_fold, sI_fold, sJ_fold, a1, bd_so]
  -- by serials
  have t8 := VV_8 va
  have tg := VV_tag va
  obtain ⟨q0, q1, t, hn, e⟩ : 5 ≤ tx ∧ tx ≤ 7 ∧ ∃ t, numT (serX σ tx vx) t ∧ l = mtx (tx.toNatClampNeg) ++ [58, 32] ++ t := by
    rcases hl with h | h | h | h | h | h
    · exact absurd h.1 c0
    · exact absurd h.1 c1
    · exact absurd h.1 c2
    · exact absurd h.1 c3
    · exact absurd h.1 c4
    · exact h
  have ty : tx.toNatClampNeg = tyI tm + 1 ∧ tyI tm < 7 := by
    rcases va with ⟨q, _⟩ | ⟨q, _⟩ | ⟨q, _⟩ | ⟨q, _⟩ | ⟨q, _⟩ | ⟨rfl, rfl, _⟩ | ⟨rfl, rfl, _⟩ | ⟨rfl, rfl, _⟩ | ⟨q, _⟩
    · exact absurd q c0
    · exact absurd q c1
    · exact absurd q c2
    · exact absurd q c3
    · exact absurd q c4
    · decide
    · decide
    · decide
    · exact absurd q t8
  rw [ty.1] at e
  obtain ⟨s1, s2⟩ := HO_sv H.1 H.2.2.1 ty.2
  generalize hm : mtx (tyI tm + 1) = m at e s2
  have lent := numT_len hn
  have lene : l.length = m.length + 2 + t.length := by rw [e]; simp only [List.length_append, List.length_cons, List.length_nil]
  have nL : L ≤ 1000000 := hv.2.2
  obtain ⟨τ1, a1, a2, a3⟩ := copy_L (N := N) (p := p) s1 hv hne (by rw [s2]; omega)
  rw [s2] at a1 a2 a3
  have w1 := wr_1 (b := 58) hv a2 (by omega)
  generalize h2 : md_ai τ1 v (p + m.length) (vp_nar .byte 58) = τ2 at w1
  have w2 := wr_1 (b := 32) hv w1.2.1 (by simp only [List.length_append, List.length_cons, List.length_nil]; omega)
  simp only [List.length_append, List.length_cons, List.length_nil, Nat.zero_add] at w2
  generalize h3 : md_ai τ2 v (p + (m.length + 1)) (vp_nar .byte 32) = τ3 at w2
  rw [show (58 : Int32) &&& 255 = 58 by decide] at w1 w2
  rw [show (32 : Int32) &&& 255 = 32 by decide] at w2
  have x3 : xw v p (m.length + 1 + 1) σ τ3 := xw_tr (xw_tr a3 w1.2.2) w2.2.2
  have se : xx8_serialOf N τ3 tx vx = some (serX σ tx vx, τ3) := by
    have j1 : ∀ k, k = 196 ∨ k = 225 ∨ k = 335 ∨ k = 519 → ∀ m, sJ τ3 k m = sJ σ k m := fun k hk m => mf_J x3.1 (by
      simp only [beq_eq_false_iff_ne]
      intro q
      rw [← q] at ht
      rcases hk with rfl | rfl | rfl | rfl <;> exact absurd ht (by decide))
    simp only [serX]
    rcases va with ⟨q, _⟩ | ⟨q, _⟩ | ⟨q, _⟩ | ⟨q, _⟩ | ⟨q, _⟩ | ⟨rfl, rfl, a, b, rfl, rfl, v3⟩ | ⟨rfl, rfl, a, b, rfl, rfl, v3⟩ | ⟨rfl, rfl, a, b, rfl, rfl, v3⟩ | ⟨q, _⟩
    · exact absurd q c0
    · exact absurd q c1
    · exact absurd q c2
    · exact absurd q c3
    · exact absurd q c4
    · obtain ⟨t1, t2, _⟩ := H.2.2.2.1 a b v3
      simp (disch := first | decide | assumption) only [xx8_serialOf, lt, gd_in, if_pos, if_neg, ↓reduceIte, gd_z0, gd_z1, gd_tt, sF_fold, sG_fold, sI_fold, sJ_fold, h_ll]
      rw [j1 196 (by omega)]
    · rcases v3 with v3 | ⟨b0, b1, ea⟩
      · obtain ⟨t1, t2, _⟩ := H.2.2.2.2.1 a b v3
        simp (disch := first | decide | assumption) only [xx8_serialOf, xx8_serialOf_b76, lt, gd_in, if_pos, if_neg, ↓reduceIte, gd_z0, gd_z1, gd_tt, sF_fold, sG_fold, sI_fold, sJ_fold, h_ll]
        rw [j1 225 (by omega)]
      · have na : ¬ 0 ≤ a := by lia
        have g1 : 0 ≤ -1 - a := by lia
        have g2 : -1 - a < 46 := by lia
        simp (disch := first | decide | assumption) only [xx8_serialOf, xx8_serialOf_b76, lt, gd_in, if_pos, if_neg, ↓reduceIte, gd_z0, gd_z1, gd_tt, sF_fold, sG_fold, sI_fold, sJ_fold, h_ll]
        rw [j1 519 (by omega)]
    · obtain ⟨t1, t2, _⟩ := H.2.2.2.2.2 a b v3
      simp (disch := first | decide | assumption) only [xx8_serialOf, lt, gd_in, if_pos, if_neg, ↓reduceIte, gd_z0, gd_z1, gd_tt, sF_fold, sG_fold, sI_fold, sJ_fold, h_ll]
      rw [j1 335 (by omega)]
    · exact absurd q t8
  obtain ⟨τ4, d1, d2, d3⟩ := digits_L hN (p := p + (m.length + 2)) (σ := τ3) hn hv (by omega)
  have x4 : xw v p (m.length + 2 + t.length) σ τ4 := xw_tr x3 d3
  refine ⟨τ4, ?_, ?_, by rw [lene]; exact x4⟩
  · have e1 : Int32.ofNat (p + m.length) + 1 = Int32.ofNat (p + (m.length + 1)) := by rw [oN_s, Nat.add_assoc]
    have e2 : Int32.ofNat (p + m.length) + 2 = Int32.ofNat (p + (m.length + 2)) := by
      rw [show (2 : Int32) = Int32.ofNat 2 from rfl, oN_add, Nat.add_assoc]
    have nn1 : (Int32.ofNat (p + m.length)).toNatClampNeg = p + m.length := oN_cl (by omega)
    have nn2 : (Int32.ofNat (p + (m.length + 1))).toNatClampNeg = p + (m.length + 1) := oN_cl (by omega)
    have tn := typeName_x (N := N) (σ := σ) va t8
    have w21 : inB (Int32.ofNat (p + (m.length + 1))) (x_ln v) = true := w2.1
    simp only [xx8_textOf]
    rw [if_neg c0, if_neg c1, if_neg c2, if_neg c3, if_neg c4, tn]
    simp only [bd_so, a1, hv.1, gd_tt, w1.1, lt, nn1, h2, e1, w21, nn2, h3, se, e2, d1]
    rw [lene]
    simp only [Nat.add_assoc]
  · rw [e, hasL_app]
    refine ⟨?_, ?_⟩
    · have := hasL_xw w2.2.1 d3 (by simp only [List.length_append, List.length_cons, List.length_nil]; omega)
      simp only [List.append_assoc] at this
      exact this
    · simp only [List.length_append, List.length_cons, List.length_nil]
      exact d2
theorem LC_TS {L : LQ} {w : WD} {σ μ : mS} (H : LM L w σ μ) : TS w σ μ := by
  have M := H.1.1
  obtain ⟨es, es', R⟩ := M.1.1.2.2.1
  have W := M.1.1.1
  have O := M.2.2.1
  have CC := M.2.2.2.2.1
  refine ⟨M.1.1.2.1, M.2.1, O, fun a b h => ?_, fun a b h => ?_, fun a b h => ?_⟩
  · obtain ⟨t1, t2, t3, t4⟩ := RT_rng R h
    exact ⟨t1, t2, t3, t4, (R.2.2.2.2 a b h).2.2⟩
  · obtain ⟨t1, t2, t3, t4⟩ := RF_rng M.1.1.2.2.2.1 h
    exact ⟨t1, t2, by lia, by lia, (M.1.1.2.2.2.1.2.2.2 a b h).1⟩
  · rcases h with h | ⟨rfl, rfl⟩
    · have q := W.2.2.2.2.2 a b h
      have q2 := CC.1 a b h
      exact ⟨by lia, by lia, q.2.1, by lia, q2.2.2.1⟩
    · exact ⟨by decide, by decide, by decide, by decide, CC.2.2.2.2.1⟩
