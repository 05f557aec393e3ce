/-! LAYER 2: functions of the house: pack -/
theorem pk_off {N : Nat} {z : mS} {b i : Int32} {m : Nat} (h : sF z 178 ≠ 0) : mm_ofTables_13 N (m + 1) b i z = some z := by
  have e : mm_ofTables_53 N b z = some z := by
    rw [mm_ofTables_53]
    simp only [sF_fold, if_neg h, mm_ofTables_85]
  rw [mm_ofTables_13]
  simp only [sF_fold, if_neg h, e, ite_self]
theorem pk_lp {L : LQ} (E : EVok (lE L)) {w : WD} {a b : Int32} (h : (a, b) ∈ wT w) : ∀ (m : Nat) (i : Int32) (σ μ : mS), 1 ≤ i → i ≤ 101 → ((ln L).toInt - i.toInt + 1).toNat + 2 < m → LC L w 0 σ μ → LO L w (xx8_pack_b13 (lNn L) m a i σ) (mm_ofTables_13 (lNn L) m b i μ) := by
  intro m
  induction m with
  | zero => intro i σ μ _ _ h; omega
  | succ m ih =>
    intro i σ μ i0 i1 hm H
    have n1 := H.2.1.2
    have n0 := H.2.1.1.2.1
    have e399 : sF σ 399 = ln L := H.2.1.1.1
    have e222 : sF μ 222 = ln L := H.2.2.1.2.2.2.1
    have o178 : sF μ 178 = 0 := H.1.1.1.2.2.2.2.2.2.2.2.2.2.2
    rw [xx8_pack_b13, mm_ofTables_13]
    simp only [sF_fold, e399, e222, o178, if_true]
    by_cases c : ln L < i
    · have nm := H.1.1.1.2.2.1.2.2.2.2.2.1
      have vk : VV w 4 (Int32.toInt64 (sF σ 527)) 3 (Int32.toInt64 (sF μ 216)) := .inr (.inr (.inr (.inr (.inl ⟨rfl, rfl, _, _, rfl, rfl, .inr nm⟩))))
      rw [if_pos c, if_pos c, mm_ofTables_53]
      simp only [sF_fold, e222, o178, if_true]
      refine (put_L E H h vk (by decide) (VV_n (v := Int32.toInt64 (ln L))) (fun z z1 z2 z3 => ?_)).elim (fun ⟨τ, τm, d1, d2, d3, _⟩ => ?_) (fun o => .inr o)
      · obtain ⟨y', y3, y4⟩ := gv_any (N := lNn L) (t := 4) (v := Int32.toInt64 b) z2 (by decide) (by decide) (by decide) (by decide)
        exact ⟨y', by simp only [y3, bd_so, mm_ofTables_85], vM_tK y4⟩
      · obtain ⟨τ2, τm2, b1, b2, b3, _⟩ := give_L (N := lNn L) d3 (by decide) (VV_tbl h)
        rw [d1, d2, bx_so, bd_so]
        dsimp only
        rw [xx8_give, b1, b2, bx_so, bx_so, bd_so, mm_ofTables_85]
        exact LO_ok b3
    · have v := arg_V' H i0 c
      have tl := tag_L (N := lNn L) H i0
      have tm := tag_M (N := lNn L) H i0 (by lia)
      obtain ⟨m2, rfl⟩ : ∃ m2, m = m2 + 1 := ⟨m - 1, by omega⟩
      rw [if_neg c, if_neg c, tl.1, bd_so, tm.1, bd_so]
      dsimp only
      rw [tl.2, bd_so, tm.2, bd_so]
      dsimp only
      refine (put_L E H h (VV_n (v := Int32.toInt64 i)) (by decide) v (fun z z1 z2 z3 => ?_)).elim (fun ⟨τ, τm, d1, d2, d3, _⟩ => ?_) (fun o => .inr o)
      · exact ⟨z, by rw [lt]; exact pk_off z1, mf_rfl⟩
      · have ee : (i + 1).toInt = i.toInt + 1 := tI_s (n := 102) (by lia)
        have c' := c
        rw [tI_lt] at c'
        rw [d1, d2, bx_so, bd_so, lt, lt]
        exact ih (i + 1) τ τm (by lia) (by lia) (by rw [ee]; omega) d3
theorem lib_pack {L : LQ} (E : EVok (lE L)) {w : WD} {σ μ : mS} (H : LC L w 0 σ μ) : LO L w (xx8_pack (lNn L) σ) (mm_ofTables (lNn L) μ 31) := by
  have n1 := H.2.1.2
  unfold xx8_pack mm_ofTables
  rw [if_pos rfl]
  have hb : BIG ≤ lNn L := EV_N E
  have hB : BIG = 8589934592 := rfl
  obtain ⟨nn, hnn⟩ := N_suc E
  refine (table_L H (fun z z1 z2 => ?_)).elim (fun ⟨a, b, τ, τm, d1, d2, a0, b0, d3, _⟩ => ?_) (fun o => .inr o)
  · refine ⟨z, ?_, mf_rfl⟩
    dsimp only
    conv => lhs; arg 2; rw [hnn]
    exact pk_off z1
  · rw [d1, d2, bx_so, bd_so]
    dsimp only
    have r1 := tI_rng (ln L)
    have := pk_lp E (a := a) (b := b) (w := wAddT w a b) (List.mem_cons_self ..) (lNn L) 1 τ τm (by decide) (by decide) (by rw [show (1 : Int32).toInt = 1 from rfl]; omega) d3
    exact LO_wl this wAddT_le
