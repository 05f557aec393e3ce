/-! LAYER 2: the system's tables: put, the value comes -/
theorem put_fin {N : Nat} (hN : BIG ≤ N) {σ σ2 : mS} {ts ff fh : List Int32} {es ps hs : Int32 → List Int32} {t e kt tag y0 : Int32} {k v : Int64} (h2 : md_al (md_ai σ 214 e.toNatClampNeg tag) 215 e.toNatClampNeg v = σ2) (ht : t ∈ ts) (hd : dst σ2) (F : FX σ2 ts es ps) (H : HS σ2 ts es hs fh) (E : EX σ2 ts es ff) (HBo : ∀ s, s ∈ ts → s ≠ t → HB σ2 (es s) (hs s) s) (he : e ∈ es t) (ekt : sI σ2 212 e = kt) (ek : kt = 3 → sJ σ2 213 e = k) (g0 : 0 ≤ tag) (g1 : tag ≤ 8) (hy : y0 = 0 → HB σ2 (es t) (hs t) t) (hx : y0 ≠ 0 → HBx σ2 (es t) (hs t) t kt k) : ∃ τ hs' fh', xx3_put_b197 N t kt k tag v e y0 σ = some (.ok τ) ∧ MX τ ts es ps hs' ff fh' ∧ m_fr hV σ2 τ := by
  obtain ⟨t0, t1, _⟩ := H.1 t ht
  obtain ⟨e0, e1, _, e3⟩ := F.1 t ht e he
  have et : sI σ2 214 e = tag := by rw [← h2, sI_al, sI_ai2]
  have all : ∀ {b : HB σ2 (es t) (hs t) t}, ∀ s, s ∈ ts → HB σ2 (es s) (hs s) s := fun {b} s hs' => by
    by_cases c : s = t
    · subst c; exact b
    · exact HBo s hs' c
  by_cases c : y0 = 0
  · refine ⟨σ2, hs, fh, ?_, ⟨F, H, all (b := hy c), E⟩, mf_rfl⟩
    clear F H E HBo hy hx all
    rw [xx3_put_b197, gd_in (by decide) e0 e1, lt, gd_in (by decide) e0 e1, lt, if_pos c, nar_tag g0 g1, h2]
    rfl
  have hx := hx c
  obtain ⟨x1, x2, x3, x4⟩ := hx
  generalize hb : sI σ2 201 t = b at *
  -- where the key does not matter
  have pln : (¬ (kt = 3 ∧ 1 ≤ k ∧ k ≤ Int32.toInt64 b + 1)) → xx3_put_b197 N t kt k tag v e y0 σ = some (.ok σ2) → ∃ τ hs' fh', xx3_put_b197 N t kt k tag v e y0 σ = some (.ok τ) ∧ MX τ ts es ps hs' ff fh' ∧ m_fr hV σ2 τ := by
    intro w ex
    have nk : ∀ j, 1 ≤ j → j ≤ b + 1 → ¬ (kt = 3 ∧ k = Int32.toInt64 j) := by
      rintro j j0 j1 ⟨q1, q2⟩
      refine w ⟨q1, ?_, ?_⟩
      · rw [q2, show (1 : Int64) = Int32.toInt64 1 from rfl, le64]; exact j0
      · rw [q2, ll_add x1 x2, le64]; exact j1
    refine ⟨σ2, hs, fh, ex, ⟨F, H, all (b := ⟨by rw [hb]; exact x1, by rw [hb]; exact x2, ?_, ?_⟩), E⟩, mf_rfl⟩
    · rw [hb]
      intro j j0 j1 _ q
      exact x3 j j0 j1 (nk j j0 (by lia)) q
    · rw [hb]
      exact x4 (nk (b + 1) (by lia) (by lia))
  have pre : xx3_put_b197 N t kt k tag v e y0 σ = (if kt = 3 then (if lg_cmp k 1 < 0 then some (.ok σ2) else (if 0 < lg_cmp k (Int32.toInt64 b + 1) then some (.ok σ2) else bd (xx3_border N σ2 t e k.toInt32 tag) (fun z3 => some (.ok z3)))) else some (.ok σ2)) := by
    clear F H E HBo hy all pln x3 x4
    rw [xx3_put_b197, gd_in (by decide) e0 e1, lt, gd_in (by decide) e0 e1, lt, if_neg c, nar_tag g0 g1, h2, gd_in (by decide) t0 t1, sI_fold, hb]
    rfl
  by_cases d : kt = 3
  · by_cases f : k < 1
    · refine pln (fun q => by have := q.2.1; lia) ?_
      rw [pre, if_pos d, if_pos (lgc_lt.mpr f)]
    · by_cases g : Int32.toInt64 b + 1 < k
      · refine pln (fun q => by have := q.2.2; lia) ?_
        rw [pre, if_pos d, if_neg (fun q => f (lgc_lt.mp q)), if_pos (lgc_gt.mpr g)]
      · have kr : Int32.toInt64 1 ≤ k ∧ k ≤ Int32.toInt64 (b + 1) := by
          refine ⟨?_, ?_⟩
          · show (1 : Int64) ≤ k; lia
          · rw [← ll_add x1 x2]; lia
        obtain ⟨bk, k1, k2⟩ := back64 kr.1 kr.2
        obtain ⟨τ, h', fh', r1, r2, r3, r4, r5, r6⟩ := border_x hN ht hd F H (by rw [hb]; exact x1) (by rw [hb]; exact x2) (key := k.toInt32) (tag := tag) (by
          rw [hb]
          intro j j0 j1 j2 q
          exact x3 j j0 j1 (fun w => j2 (by rw [w.2, h_ll])) q) (by
          rw [hb]
          intro w
          exact x4 (fun q => w (by rw [q.2, h_ll]))) k1 (by rw [hb]; exact k2) he (by rw [ekt, d]) (by rw [ek d, bk]) (by rw [et])
        have fr2 := mf_FX2 r4 ⟨rfl, rfl, rfl, rfl, rfl, rfl⟩ ⟨rfl, rfl, rfl, rfl, rfl⟩ F
        refine ⟨τ, fU hs t h', fh', ?_, ⟨fr2, r2, fun s hs' => ?_, mf_EX r4 ⟨rfl, rfl, rfl, rfl, rfl, rfl, rfl, rfl⟩ E⟩, r4⟩
        · rw [pre, if_pos d, if_neg (fun q => f (lgc_lt.mp q)), if_neg (fun q => g (lgc_gt.mp q)), r1]
          rfl
        · by_cases z : s = t
          · subst z; rw [fU_s]; exact r3
          · rw [fU_o z]
            have sr := H.1 s hs'
            exact HB_oth (ts := ts) (fh := fh) (fh' := fh') (t := t) (h' := h') r4 (r5 s sr.1 z) (HBo s hs' z) (fun x hx => r6 x (sr.2.2.2.2.2.1 x hx).1 (H.2.2.2.2.1 s hs' x hx))
  · refine pln (fun q => d q.1) ?_
    rw [pre, if_neg d]
