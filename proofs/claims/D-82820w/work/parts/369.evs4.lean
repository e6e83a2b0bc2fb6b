/-! entries of sites stay right: after a hit's loop, after a link -/
set_option maxRecDepth 20000
section
variable {S S2 : SS} {g : HG} {ws : List (List Int)} {s0 n m rr : Nat} {e : ENT} {κ ty v el : Int} {l2 : List ENT} {r : Option Nat}
theorem EVS.hit (H : EVS g S ws) (hb : ∀ s : Nat, (s : Int) < S f_Md_shapes 0 → (S f_Md_shapeBefore s).toNat < (S f_Md_shapes 0).toNat) (HI : HITR S κ ty v el rr (enL S s0 n) l2 r) (en : S f_Md_entries s0 = (n : Int)) (e2 : S2 f_Md_entries s0 = (l2.length : Int)) (e3 : enL S2 s0 l2.length = l2) (of : OFF (LHT ++ [f_Md_hits]) S S2) (sl : SLO s0 S S2) (l4 : ∀ s : Nat, (s : Int) < S f_Md_sites 0 → S f_Md_entries s ≤ 4) : EVS g S2 ws := by
  have c : CHG S S2 := CHG.ex (of.ex (by decide))
  refine H.one hb c (of.ex (by decide)) (fun s hs => sl.row hs) l4 (fun hs i hi => ?_)
  refine enL_all e3 (P := fun e => ENV g S2 (S f_Md_siteKind s0) (S f_Md_siteName s0) (LTW ws (S f_Md_siteKind s0) (S f_Md_siteName s0)) (S f_Md_siteMany s0).toNat e) (fun e he => ?_) i (by omega)
  obtain ⟨j, hj, rfl⟩ := enL_mem (HITR.sub _ _ _ HI e he)
  exact (H s0 hs j (by omega)).chg hb c
theorem EVS.link (H : EVS g S ws) (hb : ∀ s : Nat, (s : Int) < S f_Md_shapes 0 → (S f_Md_shapeBefore s).toNat < (S f_Md_shapes 0).toNat) (en : S f_Md_entries s0 = (n : Int)) (e2 : S2 f_Md_entries s0 = ((min (n + 1) 4 : Nat) : Int)) (e3 : enL S2 s0 (min (n + 1) 4) = (e :: enL S s0 n).take 4) (of : OFF LLK S S2) (sl : SLO s0 S S2) (l4 : ∀ s : Nat, (s : Int) < S f_Md_sites 0 → S f_Md_entries s ≤ 4) (E : ENV g S (S f_Md_siteKind s0) (S f_Md_siteName s0) (LTW ws (S f_Md_siteKind s0) (S f_Md_siteName s0)) (S f_Md_siteMany s0).toNat e) : EVS g S2 ws := by
  have c : CHG S S2 := CHG.ex (of.ex (by decide))
  refine H.one hb c (of.ex (by decide)) (fun s hs => sl.row hs) l4 (fun hs i hi => ?_)
  refine enL_all e3 (P := fun e => ENV g S2 (S f_Md_siteKind s0) (S f_Md_siteName s0) (LTW ws (S f_Md_siteKind s0) (S f_Md_siteName s0)) (S f_Md_siteMany s0).toNat e) (fun e' he => ?_) i (by omega)
  rcases List.mem_cons.mp (List.mem_of_mem_take he) with rfl | he
  · exact E.chg hb c
  · obtain ⟨j, hj, rfl⟩ := enL_mem he
    exact (H s0 hs j (by omega)).chg hb c
theorem EVS.mega (H : EVS g S ws) (hb : ∀ s : Nat, (s : Int) < S f_Md_shapes 0 → (S f_Md_shapeBefore s).toNat < (S f_Md_shapes 0).toNat) (e2 : S2 f_Md_entries s0 = 0) (of : OFF LLK S S2) (sl : SLO s0 S S2) (l4 : ∀ s : Nat, (s : Int) < S f_Md_sites 0 → S f_Md_entries s ≤ 4) : EVS g S2 ws := H.one hb (CHG.ex (of.ex (by decide))) (of.ex (by decide)) (fun s hs => sl.row hs) l4 (fun hs i hi => absurd hi (by omega))
end
