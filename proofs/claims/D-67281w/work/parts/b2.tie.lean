/-! PHASE 3. forAt(): the whole -/
section FORUP
variable {T : sT} {ν : Nat}
theorem for_up (ih : cAsg T ν) (hE : cEl T ν) (hR : cRst T ν) (hS : cStm T ν) : cFor T ν := by
  intro a w hw hsl d g A m e i σ K X hd hq hm en k
  obtain ⟨d, rfl, hd⟩ := mc_pos (c := 50 * ν + 29) (by omega)
  have hGQ := GQ_le ν
  have hEv := ev_lv (T := T) ν
  refine mc_ci (P := mt3098) (L := 11) rfl rfl ⟨by decide, Nat.le_of_ble_eq_true rfl⟩ fun Q hK hX => b3098_0 _ _ _ _ _ _ _ _ _ _ _ _ _ _ ?_
  have st0 := St.start (K := fun n u => Q (.inl (some (.inl n))) u) hq (by decide) en (fun n u rs => hK _ _ (k n u rs))
  rw [hw] at hq
  have gd := st0.good.2.1
  have hsc := st0.good.2.2.2.2.2.1.1
  obtain ⟨sc, sc1, sc2⟩ := st0.sc346
  have st := (st0.rise (h' := 100) gd (by omega)).rw (r' := s_b (s_nd T 2 i) (fun _ j => s_blk (s_forB T (s_lv T ν) (w_x w) j))) (fun _ => s_for_eq)
  refine st.need (by omega) (fun u1 st1 f1 _ => ?_)
  have l1' := f1.2.2.2.2.1.2.1
  have l1 := f1.nn
  refine St.intoS2 (h := 60) (y := mm_f σ 346) (x := 3) (st1.mono (by omega)) (ev_forB hEv) rfl rfl (by omega) (by omega) (fun _ => rfl) (fun _ => by have := hsl.1; omega) ⟨sc, sc1, by omega⟩ (fun gd1 => hsc.trans (st1.gd gd1).2.2.2.2.2.1.1.symm) (fun u2 s2 st2 f2 hf2 _ _ => ?_)
  have l2 := f2.nn
  have hlk : lkSl (psW w (w_B w + 1) s2) := ⟨hsl.2.1, hsl.2.2.1⟩
  have hZ : fZ Q (mm_f σ 346) (th σ) (fun v q n u => shS σ v q n (mm_setf u 346 (mm_f σ 346))) (fun n v => Q (.inl (some (.inl n))) (mm_setf v 346 (mm_f σ 346)) ∧ (¬ GD v → Q (.inl (some (.inl n))) v)) :=
    ⟨fun _ _ h => h.1, fun _ _ ng h => h.2 ng, fun k v q k1 k2 => ⟨k, rfl, k1, by rw [fN_eq (f_other (by decide) : mm_f (mm_setf v 346 (mm_f σ 346)) 315 = mm_f v 315)]; exact k2⟩⟩
  have ne5 : ∀ {x : Int32}, (x == 5) = false → t_wd T (i + 1) x = true → t_wd T (i + 1) 5 = false := fun {x} hx h => by
    unfold t_wd at h ⊢
    rw [Bool.and_eq_true] at h
    rw [eq_of_beq h.2, hx, Bool.and_false]
  refine st2.eatWord (by omega) (fun z33 => st2.eatWord (by omega) (fun z38 => st2.eatWord (by omega) (fun z5 => ?_) (fun u3 z5 st3 f3 => ?_)) (fun u3 z38 st3 f3 => ?_)) (fun u3 z33 st3 f3 => ?_)
  · exact for_62e (w := psW w (w_B w + 1) s2) hZ ih hS hw hlk (by omega) (by omega) (st2.rw fun gd2 => by unfold s_forB; rw [z33 gd2, z38 gd2, z5 gd2]; rfl) (by omega) (by omega) (fun _ => Nat.le_refl _)
  · exact for_62 (w := psW w (w_B w + 1) s2) (as := 1) hZ ih hE hR hS hw hlk (by decide) (by decide) (by omega) (by omega) (st3.rw fun gd3 => by
      have gd2 := f3.1 gd3
      unfold s_forB
      rw [z33 gd2, z38 gd2, z5 gd2]; rfl) (by omega) (by omega) (fun _ => by omega)
  · exact for_62 (w := psW w (w_B w + 1) s2) (as := 1) hZ ih hE hR hS hw hlk (by decide) (by decide) (by omega) (by omega) (st3.rw fun gd3 => by
      have gd2 := f3.1 gd3
      unfold s_forB
      rw [z33 gd2, z38 gd2, ne5 (by decide) (z38 gd2)]; rfl) (by omega) (by omega) (fun _ => by omega)
  · exact for_62 (w := psW w (w_B w + 1) s2) (as := 0) hZ ih hE hR hS hw hlk (by decide) (by decide) (by omega) (by omega) (st3.rw fun gd3 => by
      have gd2 := f3.1 gd3
      unfold s_forB
      rw [z33 gd2, ne5 (by decide) (z33 gd2)]; rfl) (by omega) (by omega) (fun _ => by omega)
/-- all methods, level by level -/
def cAll (T : sT) (ν : Nat) : Prop := cAsg T ν ∧ cNew T ν ∧ cUna T ν ∧ cLft T ν ∧ cEl T ν ∧ cRst T ν ∧ cIt T ν ∧ cStm T ν
theorem all_nu : ∀ ν, cAll T ν
  | 0 => ⟨asg_no, new_no, una_no, lft_no, el_no, rst_no, it_no, stm_no⟩
  | ν + 1 => by
    obtain ⟨ih, ihn, ihu, ihl, hE, hR, hI, hS⟩ := all_nu ν
    have ihp : cPrm T ν := c_primary hI hE hR ih ihl
    have iha : cArw T ν := c_arrow ih hI hE hR
    have hF : cFor T ν := for_up ih hE hR hS
    have hsi : cSti T ν := sti_up hI ih hE hR hS hF
    exact ⟨asg_up ih ihn ihp ihu iha, new_up ih ihn ihp, una_up' ih ihn ihp ihu, lft_up ih ihn ihp, el_up ih hE hR, rst_up ih hE hR, it_up hI ih hE hR ihl hsi, stm_up hsi⟩
end FORUP
