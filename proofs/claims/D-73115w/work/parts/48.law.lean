/-! the law (printed by gen/run3.py) -/
set_option maxRecDepth 100000
def b_L_law_18 (n : Nat) (r3 : Option Nat) (r8 : Option Nat) (v0 : Nat → Int32) : Int32 × zGd × zMm → Option ((((Int32 × zGd × zMm) ⊕ (zGd × zMm))) ⊕ (Int32 × zGd × zMm)) := fun (v15, g16, m17) =>
if ((Int32.ofNat n) - (6 : Int32)) < v15 then (some (.inl (.inr (g16, m17))))
else ((zsld n v0 v15).bind fun v18 =>
if (v18 &&& (63 : Int32)) = (0 : Int32) then ((zsld n v0 (v15 + (1 : Int32))).bind fun v19 =>
(zsld n v0 (v15 + (2 : Int32))).bind fun v20 =>
(zrc g16 0 r3 (f_X0_kin g16 m17 r3 v19 v20)).bind fun (v21, m22) =>
(zsld n v0 (v15 + (1 : Int32))).bind fun v23 =>
(zsld n v0 (v15 + (2 : Int32))).bind fun v24 =>
(zrc g16 2 r8 (f_X2_kin g16 m22 r8 v23 v24)).bind fun (v25, m26) =>
if v21 = v25 then (zlt (v15 + (6 : Int32)) fun v27 =>
some (.inr (v27, g16, m26)))
else (some (.inl (.inl (((0 : Int32), g16, m26))))))
else if (v18 &&& (63 : Int32)) = (1 : Int32) then ((zsld n v0 (v15 + (1 : Int32))).bind fun v28 =>
(zsld n v0 (v15 + (2 : Int32))).bind fun v29 =>
(zsld n v0 (v15 + (3 : Int32))).bind fun v30 =>
(zsld n v0 (v15 + (4 : Int32))).bind fun v31 =>
(zsld n v0 (v15 + (5 : Int32))).bind fun v32 =>
(zrc g16 0 r3 (f_X0_feed g16 m17 r3 v28 v29 v30 v31 v32)).bind fun (v33, m34) =>
(zsld n v0 (v15 + (1 : Int32))).bind fun v35 =>
(zsld n v0 (v15 + (2 : Int32))).bind fun v36 =>
(zsld n v0 (v15 + (3 : Int32))).bind fun v37 =>
(zsld n v0 (v15 + (4 : Int32))).bind fun v38 =>
(zsld n v0 (v15 + (5 : Int32))).bind fun v39 =>
(zrc g16 2 r8 (f_X2_feed g16 m34 r8 v35 v36 v37 v38 v39)).bind fun (v40, m41) =>
if v33 = v40 then (zlt (v15 + (6 : Int32)) fun v42 =>
some (.inr (v42, g16, m41)))
else (some (.inl (.inl (((0 : Int32), g16, m41))))))
else if (v18 &&& (63 : Int32)) = (2 : Int32) then ((zsld n v0 (v15 + (1 : Int32))).bind fun v43 =>
(zrc g16 0 r3 (f_X0_end g16 m17 r3 v43)).bind fun (v44, m45) =>
(zsld n v0 (v15 + (1 : Int32))).bind fun v46 =>
(zrc g16 2 r8 (f_X2_end g16 m45 r8 v46)).bind fun (v47, m48) =>
if v44 = v47 then (zlt (v15 + (6 : Int32)) fun v49 =>
some (.inr (v49, g16, m48)))
else (some (.inl (.inl (((0 : Int32), g16, m48))))))
else if (v18 &&& (63 : Int32)) = (3 : Int32) then ((zrc g16 0 r3 (f_X0_text g16 m17 r3)).bind fun (v50, g51, m52) =>
(zrc g51 2 r8 (f_X2_text g51 m52 r8)).bind fun (v53, m54) =>
if v50 = v53 then (zlt (v15 + (6 : Int32)) fun v55 =>
some (.inr (v55, g51, m54)))
else (some (.inl (.inl (((0 : Int32), g51, m54))))))
else if (v18 &&& (63 : Int32)) = (4 : Int32) then ((zsld n v0 (v15 + (1 : Int32))).bind fun v56 =>
(zrc g16 0 r3 (f_X0_fault g16 m17 r3 v56)).bind fun v57 =>
(zsld n v0 (v15 + (1 : Int32))).bind fun v58 =>
(zrc g16 2 r8 (f_X2_fault g16 m17 r8 v58)).bind fun v59 =>
if v57 = v59 then (zlt (v15 + (6 : Int32)) fun v60 =>
some (.inr (v60, g16, m17)))
else (some (.inl (.inl (((0 : Int32), g16, m17))))))
else if (v18 &&& (63 : Int32)) = (5 : Int32) then ((zsld n v0 (v15 + (1 : Int32))).bind fun v61 =>
(zrc g16 0 r3 (f_X0_by g16 m17 r3 v61)).bind fun (v62, m63) =>
(zsld n v0 (v15 + (1 : Int32))).bind fun v64 =>
(zrc g16 2 r8 (f_X2_by g16 m63 r8 v64)).bind fun (v65, m66) =>
if v62 = v65 then (zlt (v15 + (6 : Int32)) fun v67 =>
some (.inr (v67, g16, m66)))
else (some (.inl (.inl (((0 : Int32), g16, m66))))))
else if (v18 &&& (63 : Int32)) = (6 : Int32) then ((zsld n v0 (v15 + (1 : Int32))).bind fun v68 =>
(zrc g16 0 r3 (f_X0_reach g16 m17 r3 v68)).bind fun (v69, m70) =>
(zsld n v0 (v15 + (1 : Int32))).bind fun v71 =>
(zrc g16 2 r8 (f_X2_reach g16 m70 r8 v71)).bind fun (v72, m73) =>
if v69 = v72 then (zlt (v15 + (6 : Int32)) fun v74 =>
some (.inr (v74, g16, m73)))
else (some (.inl (.inl (((0 : Int32), g16, m73))))))
else if (v18 &&& (63 : Int32)) = (7 : Int32) then ((zsld n v0 (v15 + (1 : Int32))).bind fun v75 =>
(zsld n v0 (v15 + (2 : Int32))).bind fun v76 =>
(zrc g16 0 r3 (f_X0_down g16 m17 r3 v75 v76)).bind fun (v77, m78) =>
(zsld n v0 (v15 + (1 : Int32))).bind fun v79 =>
(zsld n v0 (v15 + (2 : Int32))).bind fun v80 =>
(zrc g16 2 r8 (f_X2_down g16 m78 r8 v79 v80)).bind fun (v81, m82) =>
if v77 = v81 then (zlt (v15 + (6 : Int32)) fun v83 =>
some (.inr (v83, g16, m82)))
else (some (.inl (.inl (((0 : Int32), g16, m82))))))
else if (v18 &&& (63 : Int32)) = (8 : Int32) then ((zsld n v0 (v15 + (1 : Int32))).bind fun v84 =>
(zrc g16 0 r3 (f_X0_strap g16 m17 r3 v84)).bind fun (v85, m86) =>
(zsld n v0 (v15 + (1 : Int32))).bind fun v87 =>
(zrc g16 2 r8 (f_X2_strap g16 m86 r8 v87)).bind fun (v88, m89) =>
if v85 = v88 then (zlt (v15 + (6 : Int32)) fun v90 =>
some (.inr (v90, g16, m89)))
else (some (.inl (.inl (((0 : Int32), g16, m89))))))
else if (v18 &&& (63 : Int32)) = (9 : Int32) then ((zsld n v0 (v15 + (1 : Int32))).bind fun v91 =>
(zsld n v0 (v15 + (2 : Int32))).bind fun v92 =>
(zrc g16 0 r3 (f_X0_swap g16 m17 r3 v91 v92)).bind fun (v93, m94) =>
(zsld n v0 (v15 + (1 : Int32))).bind fun v95 =>
(zsld n v0 (v15 + (2 : Int32))).bind fun v96 =>
(zrc g16 2 r8 (f_X2_swap g16 m94 r8 v95 v96)).bind fun (v97, m98) =>
if v93 = v97 then (zlt (v15 + (6 : Int32)) fun v99 =>
some (.inr (v99, g16, m98)))
else (some (.inl (.inl (((0 : Int32), g16, m98))))))
else if (v18 &&& (63 : Int32)) = (10 : Int32) then ((zsld n v0 (v15 + (1 : Int32))).bind fun v100 =>
(zrc g16 0 r3 (f_X0_dinner g16 m17 r3 v100)).bind fun (v101, m102) =>
(zsld n v0 (v15 + (1 : Int32))).bind fun v103 =>
(zrc g16 2 r8 (f_X2_dinner g16 m102 r8 v103)).bind fun (v104, m105) =>
if v101 = v104 then (zlt (v15 + (6 : Int32)) fun v106 =>
some (.inr (v106, g16, m105)))
else (some (.inl (.inl (((0 : Int32), g16, m105))))))
else if (v18 &&& (63 : Int32)) = (11 : Int32) then ((zsld n v0 (v15 + (1 : Int32))).bind fun v107 =>
(zrc g16 0 r3 (f_X0_played g16 m17 r3 v107)).bind fun (v108, m109) =>
(zsld n v0 (v15 + (1 : Int32))).bind fun v110 =>
(zrc g16 2 r8 (f_X2_played g16 m109 r8 v110)).bind fun (v111, m112) =>
if v108 = v111 then (zlt (v15 + (6 : Int32)) fun v113 =>
some (.inr (v113, g16, m112)))
else (some (.inl (.inl (((0 : Int32), g16, m112))))))
else if (v18 &&& (63 : Int32)) = (12 : Int32) then ((zsld n v0 (v15 + (1 : Int32))).bind fun v114 =>
(zsld n v0 (v15 + (2 : Int32))).bind fun v115 =>
(zrc g16 0 r3 (f_X0_years g16 m17 r3 v114 v115)).bind fun (v116, m117) =>
(zsld n v0 (v15 + (1 : Int32))).bind fun v118 =>
(zsld n v0 (v15 + (2 : Int32))).bind fun v119 =>
(zrc g16 2 r8 (f_X2_years g16 m117 r8 v118 v119)).bind fun (v120, m121) =>
if v116 = v120 then (zlt (v15 + (6 : Int32)) fun v122 =>
some (.inr (v122, g16, m121)))
else (some (.inl (.inl (((0 : Int32), g16, m121))))))
else if (v18 &&& (63 : Int32)) = (13 : Int32) then ((zrc g16 0 r3 (f_X0_undo g16 m17 r3)).bind fun (v123, m124) =>
(zrc g16 2 r8 (f_X2_undo g16 m124 r8)).bind fun (v125, m126) =>
if v123 = v125 then (zlt (v15 + (6 : Int32)) fun v127 =>
some (.inr (v127, g16, m126)))
else (some (.inl (.inl (((0 : Int32), g16, m126))))))
else if (v18 &&& (63 : Int32)) = (14 : Int32) then ((zsld n v0 (v15 + (1 : Int32))).bind fun v128 =>
(zsld n v0 (v15 + (2 : Int32))).bind fun v129 =>
(zrc g16 0 r3 (f_X0_of g16 m17 r3 v128 v129)).bind fun (v130, m131) =>
(zsld n v0 (v15 + (1 : Int32))).bind fun v132 =>
(zsld n v0 (v15 + (2 : Int32))).bind fun v133 =>
(zrc g16 2 r8 (f_X2_of g16 m131 r8 v132 v133)).bind fun (v134, m135) =>
if v130 = v134 then (zlt (v15 + (6 : Int32)) fun v136 =>
some (.inr (v136, g16, m135)))
else (some (.inl (.inl (((0 : Int32), g16, m135))))))
else if (v18 &&& (63 : Int32)) = (15 : Int32) then ((zsld n v0 (v15 + (1 : Int32))).bind fun v137 =>
(zrc g16 0 r3 (f_X0_at g16 m17 r3 v137)).bind fun v138 =>
(zsld n v0 (v15 + (1 : Int32))).bind fun v139 =>
(zrc g16 2 r8 (f_X2_at g16 m17 r8 v139)).bind fun v140 =>
if v138 = v140 then (zlt (v15 + (6 : Int32)) fun v141 =>
some (.inr (v141, g16, m17)))
else (some (.inl (.inl (((0 : Int32), g16, m17))))))
else if (v18 &&& (63 : Int32)) = (16 : Int32) then ((zsld n v0 (v15 + (1 : Int32))).bind fun v142 =>
(zrc g16 0 r3 (f_X0_is g16 m17 r3 v142)).bind fun v143 =>
(zsld n v0 (v15 + (1 : Int32))).bind fun v144 =>
(zrc g16 2 r8 (f_X2_is g16 m17 r8 v144)).bind fun v145 =>
if v143 = v145 then (zlt (v15 + (6 : Int32)) fun v146 =>
some (.inr (v146, g16, m17)))
else (some (.inl (.inl (((0 : Int32), g16, m17))))))
else if (v18 &&& (63 : Int32)) = (17 : Int32) then ((zsld n v0 (v15 + (1 : Int32))).bind fun v147 =>
(zsld n v0 (v15 + (2 : Int32))).bind fun v148 =>
(zrc g16 0 r3 (f_X0_book g16 m17 r3 v147 v148)).bind fun v149 =>
(zsld n v0 (v15 + (1 : Int32))).bind fun v150 =>
(zsld n v0 (v15 + (2 : Int32))).bind fun v151 =>
(zrc g16 2 r8 (f_X2_book g16 m17 r8 v150 v151)).bind fun v152 =>
if v149 = v152 then (zlt (v15 + (6 : Int32)) fun v153 =>
some (.inr (v153, g16, m17)))
else (some (.inl (.inl (((0 : Int32), g16, m17))))))
else if (v18 &&& (63 : Int32)) = (18 : Int32) then ((zsld n v0 (v15 + (1 : Int32))).bind fun v154 =>
(zsld n v0 (v15 + (2 : Int32))).bind fun v155 =>
(zrc g16 0 r3 (f_X0_foretold g16 m17 r3 v154 v155)).bind fun (v156, m157) =>
(zsld n v0 (v15 + (1 : Int32))).bind fun v158 =>
(zsld n v0 (v15 + (2 : Int32))).bind fun v159 =>
(zrc g16 2 r8 (f_X2_foretold g16 m157 r8 v158 v159)).bind fun (v160, m161) =>
if v156 = v160 then (zlt (v15 + (6 : Int32)) fun v162 =>
some (.inr (v162, g16, m161)))
else (some (.inl (.inl (((0 : Int32), g16, m161))))))
else if (v18 &&& (63 : Int32)) = (19 : Int32) then ((zsld n v0 (v15 + (1 : Int32))).bind fun v163 =>
(zsld n v0 (v15 + (2 : Int32))).bind fun v164 =>
(zsld n v0 (v15 + (3 : Int32))).bind fun v165 =>
(zrc g16 0 r3 (f_X0_spite g16 m17 r3 v163 v164 v165)).bind fun (v166, m167) =>
(zsld n v0 (v15 + (1 : Int32))).bind fun v168 =>
(zsld n v0 (v15 + (2 : Int32))).bind fun v169 =>
(zsld n v0 (v15 + (3 : Int32))).bind fun v170 =>
(zrc g16 2 r8 (f_X2_spite g16 m167 r8 v168 v169 v170)).bind fun (v171, m172) =>
if v166 = v171 then (zlt (v15 + (6 : Int32)) fun v173 =>
some (.inr (v173, g16, m172)))
else (some (.inl (.inl (((0 : Int32), g16, m172))))))
else if (v18 &&& (63 : Int32)) = (20 : Int32) then ((zsld n v0 (v15 + (1 : Int32))).bind fun v174 =>
((if v174 = 0 then (some ((0 : Int32)))
else (some ((1 : Int32))) : Option (Int32))).bind fun v176 =>
(zrc g16 0 r3 (f_X0_round g16 m17 r3 v176)).bind fun (v177, m178) =>
(zsld n v0 (v15 + (1 : Int32))).bind fun v179 =>
((if v179 = 0 then (some ((0 : Int32)))
else (some ((1 : Int32))) : Option (Int32))).bind fun v181 =>
(zrc g16 2 r8 (f_X2_round g16 m178 r8 v181)).bind fun (v182, m183) =>
if v177 = v182 then (zlt (v15 + (6 : Int32)) fun v184 =>
some (.inr (v184, g16, m183)))
else (some (.inl (.inl (((0 : Int32), g16, m183))))))
else if (v18 &&& (63 : Int32)) = (21 : Int32) then ((zsld n v0 (v15 + (1 : Int32))).bind fun v185 =>
(zrc g16 0 r3 (f_X0_seating g16 m17 r3 v185)).bind fun (v186, m187) =>
(zsld n v0 (v15 + (1 : Int32))).bind fun v188 =>
(zrc g16 2 r8 (f_X2_seating g16 m187 r8 v188)).bind fun (v189, m190) =>
if v186 = v189 then (zlt (v15 + (6 : Int32)) fun v191 =>
some (.inr (v191, g16, m190)))
else (some (.inl (.inl (((0 : Int32), g16, m190))))))
else if (v18 &&& (63 : Int32)) = (22 : Int32) then ((zrc g16 0 r3 (f_X0_seatings g16 m17 r3)).bind fun (v192, m193) =>
(zrc g16 2 r8 (f_X2_seatings g16 m193 r8)).bind fun (v194, m195) =>
if v192 = v194 then (zlt (v15 + (6 : Int32)) fun v196 =>
some (.inr (v196, g16, m195)))
else (some (.inl (.inl (((0 : Int32), g16, m195))))))
else if (v18 &&& (63 : Int32)) = (23 : Int32) then ((zrc g16 0 r3 (f_X0_spiteNow g16 m17 r3)).bind fun v197 =>
(zrc g16 2 r8 (f_X2_spiteNow g16 m17 r8)).bind fun (v198, m199) =>
if v197 = v198 then (zlt (v15 + (6 : Int32)) fun v200 =>
some (.inr (v200, g16, m199)))
else (some (.inl (.inl (((0 : Int32), g16, m199))))))
else if (v18 &&& (63 : Int32)) = (24 : Int32) then ((zsld n v0 (v15 + (1 : Int32))).bind fun v201 =>
(zrc g16 0 r3 (f_X0_mend g16 m17 r3 v201)).bind fun (v202, m203) =>
(zsld n v0 (v15 + (1 : Int32))).bind fun v204 =>
(zrc g16 2 r8 (f_X2_mend g16 m203 r8 v204)).bind fun (v205, m206) =>
if v202 = v205 then (zlt (v15 + (6 : Int32)) fun v207 =>
some (.inr (v207, g16, m206)))
else (some (.inl (.inl (((0 : Int32), g16, m206))))))
else if (v18 &&& (63 : Int32)) = (25 : Int32) then ((zsld n v0 (v15 + (1 : Int32))).bind fun v208 =>
(zsld n v0 (v15 + (2 : Int32))).bind fun v209 =>
(zrc g16 0 r3 (f_X0_hedge g16 m17 r3 v208 v209)).bind fun (v210, m211) =>
(zsld n v0 (v15 + (1 : Int32))).bind fun v212 =>
(zsld n v0 (v15 + (2 : Int32))).bind fun v213 =>
(zrc g16 2 r8 (f_X2_hedge g16 m211 r8 v212 v213)).bind fun (v214, m215) =>
if v210 = v214 then (zlt (v15 + (6 : Int32)) fun v216 =>
some (.inr (v216, g16, m215)))
else (some (.inl (.inl (((0 : Int32), g16, m215))))))
else if (v18 &&& (63 : Int32)) = (26 : Int32) then ((zsld n v0 (v15 + (1 : Int32))).bind fun v217 =>
(zsld n v0 (v15 + (2 : Int32))).bind fun v218 =>
(zsld n v0 (v15 + (3 : Int32))).bind fun v219 =>
(zrc g16 0 r3 (f_X0_flight g16 m17 r3 v217 v218 v219)).bind fun (v220, m221) =>
(zsld n v0 (v15 + (1 : Int32))).bind fun v222 =>
(zsld n v0 (v15 + (2 : Int32))).bind fun v223 =>
(zsld n v0 (v15 + (3 : Int32))).bind fun v224 =>
(zrc g16 2 r8 (f_X2_flight g16 m221 r8 v222 v223 v224)).bind fun (v225, m226) =>
if v220 = v225 then (zlt (v15 + (6 : Int32)) fun v227 =>
some (.inr (v227, g16, m226)))
else (some (.inl (.inl (((0 : Int32), g16, m226))))))
else if (v18 &&& (63 : Int32)) = (27 : Int32) then ((zsld n v0 (v15 + (1 : Int32))).bind fun v228 =>
(zsld n v0 (v15 + (2 : Int32))).bind fun v229 =>
(zrc g16 0 r3 (f_X0_comes g16 m17 r3 v228 v229)).bind fun (v230, m231) =>
(zsld n v0 (v15 + (1 : Int32))).bind fun v232 =>
(zsld n v0 (v15 + (2 : Int32))).bind fun v233 =>
(zrc g16 2 r8 (f_X2_comes g16 m231 r8 v232 v233)).bind fun (v234, m235) =>
if v230 = v234 then (zlt (v15 + (6 : Int32)) fun v236 =>
some (.inr (v236, g16, m235)))
else (some (.inl (.inl (((0 : Int32), g16, m235))))))
else if (v18 &&& (63 : Int32)) = (28 : Int32) then ((zsld n v0 (v15 + (1 : Int32))).bind fun v237 =>
(zsld n v0 (v15 + (2 : Int32))).bind fun v238 =>
(zsld n v0 (v15 + (3 : Int32))).bind fun v239 =>
(zrc g16 0 r3 (f_X0_guess g16 m17 r3 v237 v238 v239)).bind fun (v240, m241) =>
(zsld n v0 (v15 + (1 : Int32))).bind fun v242 =>
(zsld n v0 (v15 + (2 : Int32))).bind fun v243 =>
(zsld n v0 (v15 + (3 : Int32))).bind fun v244 =>
(zrc g16 2 r8 (f_X2_guess g16 m241 r8 v242 v243 v244)).bind fun (v245, m246) =>
if v240 = v245 then (zlt (v15 + (6 : Int32)) fun v247 =>
some (.inr (v247, g16, m246)))
else (some (.inl (.inl (((0 : Int32), g16, m246))))))
else if (v18 &&& (63 : Int32)) = (29 : Int32) then ((zsld n v0 (v15 + (1 : Int32))).bind fun v248 =>
(zsld n v0 (v15 + (2 : Int32))).bind fun v249 =>
(zrc g16 0 r3 (f_X0_answer g16 m17 r3 v248 v249)).bind fun v250 =>
(zsld n v0 (v15 + (1 : Int32))).bind fun v251 =>
(zsld n v0 (v15 + (2 : Int32))).bind fun v252 =>
(zrc g16 2 r8 (f_X2_answer g16 m17 r8 v251 v252)).bind fun v253 =>
if v250 = v253 then (zlt (v15 + (6 : Int32)) fun v254 =>
some (.inr (v254, g16, m17)))
else (some (.inl (.inl (((0 : Int32), g16, m17))))))
else if (v18 &&& (63 : Int32)) = (30 : Int32) then ((zrc g16 0 r3 (f_X0_fits g16 m17 r3)).bind fun (v255, m256) =>
(zrc g16 2 r8 (f_X2_fits g16 m256 r8)).bind fun (v257, m258) =>
if v255 = v257 then (zlt (v15 + (6 : Int32)) fun v259 =>
some (.inr (v259, g16, m258)))
else (some (.inl (.inl (((0 : Int32), g16, m258))))))
else if (v18 &&& (63 : Int32)) = (31 : Int32) then ((zsld n v0 (v15 + (1 : Int32))).bind fun v260 =>
(zrc g16 0 r3 (f_X0_fit g16 m17 r3 v260)).bind fun (v261, m262) =>
(zsld n v0 (v15 + (1 : Int32))).bind fun v263 =>
(zrc g16 2 r8 (f_X2_fit g16 m262 r8 v263)).bind fun (v264, m265) =>
if v261 = v264 then (zlt (v15 + (6 : Int32)) fun v266 =>
some (.inr (v266, g16, m265)))
else (some (.inl (.inl (((0 : Int32), g16, m265))))))
else if (v18 &&& (63 : Int32)) = (32 : Int32) then ((zrc g16 0 r3 (f_X0_ask g16 m17 r3)).bind fun (v267, m268) =>
(zrc g16 2 r8 (f_X2_ask g16 m268 r8)).bind fun (v269, m270) =>
if v267 = v269 then (zlt (v15 + (6 : Int32)) fun v271 =>
some (.inr (v271, g16, m270)))
else (some (.inl (.inl (((0 : Int32), g16, m270))))))
else if (v18 &&& (63 : Int32)) = (33 : Int32) then ((zsld n v0 (v15 + (1 : Int32))).bind fun v272 =>
(zsld n v0 (v15 + (2 : Int32))).bind fun v273 =>
(zsld n v0 (v15 + (3 : Int32))).bind fun v274 =>
(zsld n v0 (v15 + (4 : Int32))).bind fun v275 =>
(zrc g16 0 r3 (f_X0_gain g16 m17 r3 v272 v273 v274 v275)).bind fun (v276, m277) =>
(zsld n v0 (v15 + (1 : Int32))).bind fun v278 =>
(zsld n v0 (v15 + (2 : Int32))).bind fun v279 =>
(zsld n v0 (v15 + (3 : Int32))).bind fun v280 =>
(zsld n v0 (v15 + (4 : Int32))).bind fun v281 =>
(zrc g16 2 r8 (f_X2_gain g16 m277 r8 v278 v279 v280 v281)).bind fun (v282, m283) =>
if v276 = v282 then (zlt (v15 + (6 : Int32)) fun v284 =>
some (.inr (v284, g16, m283)))
else (some (.inl (.inl (((0 : Int32), g16, m283))))))
else if (v18 &&& (63 : Int32)) = (34 : Int32) then ((zrc g16 0 r3 (f_X0_rests g16 m17 r3)).bind fun v285 =>
(zrc g16 2 r8 (f_X2_rests g16 m17 r8)).bind fun v286 =>
if v285 = v286 then (zlt (v15 + (6 : Int32)) fun v287 =>
some (.inr (v287, g16, m17)))
else (some (.inl (.inl (((0 : Int32), g16, m17))))))
else if (v18 &&& (63 : Int32)) = (35 : Int32) then ((zsld n v0 (v15 + (1 : Int32))).bind fun v288 =>
((if v288 = 0 then (some ((0 : Int32)))
else (some ((1 : Int32))) : Option (Int32))).bind fun v290 =>
(zsld n v0 (v15 + (2 : Int32))).bind fun v291 =>
((if v291 = 0 then (some ((0 : Int32)))
else (some ((1 : Int32))) : Option (Int32))).bind fun v293 =>
(zrc g16 0 r3 (f_X0_mixed g16 m17 r3 v290 v293)).bind fun v294 =>
(zsld n v0 (v15 + (1 : Int32))).bind fun v295 =>
((if v295 = 0 then (some ((0 : Int32)))
else (some ((1 : Int32))) : Option (Int32))).bind fun v297 =>
(zsld n v0 (v15 + (2 : Int32))).bind fun v298 =>
((if v298 = 0 then (some ((0 : Int32)))
else (some ((1 : Int32))) : Option (Int32))).bind fun v300 =>
(zrc g16 2 r8 (f_X2_mixed g16 m17 r8 v297 v300)).bind fun v301 =>
if v294 = v301 then (zlt (v15 + (6 : Int32)) fun v302 =>
some (.inr (v302, g16, m17)))
else (some (.inl (.inl (((0 : Int32), g16, m17))))))
else if (v18 &&& (63 : Int32)) = (36 : Int32) then ((zsld n v0 (v15 + (1 : Int32))).bind fun v303 =>
(zsld n v0 (v15 + (2 : Int32))).bind fun v304 =>
(zrc g16 0 r3 (f_X0_saying g16 m17 r3 v303 v304)).bind fun (v305, m306) =>
(zsld n v0 (v15 + (1 : Int32))).bind fun v307 =>
(zsld n v0 (v15 + (2 : Int32))).bind fun v308 =>
(zrc g16 2 r8 (f_X2_saying g16 m306 r8 v307 v308)).bind fun (v309, m310) =>
if v305 = v309 then (zlt (v15 + (6 : Int32)) fun v311 =>
some (.inr (v311, g16, m310)))
else (some (.inl (.inl (((0 : Int32), g16, m310))))))
else if (v18 &&& (63 : Int32)) = (37 : Int32) then ((zsld n v0 (v15 + (1 : Int32))).bind fun v312 =>
(zsld n v0 (v15 + (2 : Int32))).bind fun v313 =>
((if v313 = 0 then (some ((0 : Int32)))
else (some ((1 : Int32))) : Option (Int32))).bind fun v315 =>
(zrc g16 0 r3 (f_X0_least g16 m17 r3 v312 v315)).bind fun v316 =>
(zsld n v0 (v15 + (1 : Int32))).bind fun v317 =>
(zsld n v0 (v15 + (2 : Int32))).bind fun v318 =>
((if v318 = 0 then (some ((0 : Int32)))
else (some ((1 : Int32))) : Option (Int32))).bind fun v320 =>
(zrc g16 2 r8 (f_X2_least g16 m17 r8 v317 v320)).bind fun v321 =>
if v316 = v321 then (zlt (v15 + (6 : Int32)) fun v322 =>
some (.inr (v322, g16, m17)))
else (some (.inl (.inl (((0 : Int32), g16, m17))))))
else if (v18 &&& (63 : Int32)) = (38 : Int32) then ((zsld n v0 (v15 + (1 : Int32))).bind fun v323 =>
(zsld n v0 (v15 + (2 : Int32))).bind fun v324 =>
(zsld n v0 (v15 + (3 : Int32))).bind fun v325 =>
(zsld n v0 (v15 + (4 : Int32))).bind fun v326 =>
((if v326 = 0 then (some ((0 : Int32)))
else (some ((1 : Int32))) : Option (Int32))).bind fun v328 =>
(zrc g16 0 r3 (f_X0_near g16 m17 r3 v323 v324 v325 v328)).bind fun w329 =>
(zsld n v0 (v15 + (1 : Int32))).bind fun v330 =>
(zsld n v0 (v15 + (2 : Int32))).bind fun v331 =>
(zsld n v0 (v15 + (3 : Int32))).bind fun v332 =>
(zsld n v0 (v15 + (4 : Int32))).bind fun v333 =>
((if v333 = 0 then (some ((0 : Int32)))
else (some ((1 : Int32))) : Option (Int32))).bind fun v335 =>
(zrc g16 2 r8 (f_X2_near g16 m17 r8 v330 v331 v332 v335)).bind fun w336 =>
if w329 = w336 then (zlt (v15 + (6 : Int32)) fun v337 =>
some (.inr (v337, g16, m17)))
else (some (.inl (.inl (((0 : Int32), g16, m17))))))
else if (v18 &&& (63 : Int32)) = (39 : Int32) then ((zsld n v0 (v15 + (1 : Int32))).bind fun v338 =>
(zsld n v0 (v15 + (2 : Int32))).bind fun v339 =>
(zrc g16 0 r3 (f_X0_game g16 m17 r3 v338 v339)).bind fun (v340, m341) =>
(zsld n v0 (v15 + (1 : Int32))).bind fun v342 =>
(zsld n v0 (v15 + (2 : Int32))).bind fun v343 =>
(zrc g16 2 r8 (f_X2_game g16 m341 r8 v342 v343)).bind fun (v344, m345) =>
if v340 = v344 then (zlt (v15 + (6 : Int32)) fun v346 =>
some (.inr (v346, g16, m345)))
else (some (.inl (.inl (((0 : Int32), g16, m345))))))
else if (v18 &&& (63 : Int32)) = (40 : Int32) then ((zsld n v0 (v15 + (1 : Int32))).bind fun v347 =>
(zsld n v0 (v15 + (2 : Int32))).bind fun v348 =>
((if v348 = 0 then (some ((0 : Int32)))
else (some ((1 : Int32))) : Option (Int32))).bind fun v350 =>
(zrc g16 0 r3 (f_X0_bite g16 m17 r3 v347 v350)).bind fun (v351, m352) =>
(zsld n v0 (v15 + (1 : Int32))).bind fun v353 =>
(zsld n v0 (v15 + (2 : Int32))).bind fun v354 =>
((if v354 = 0 then (some ((0 : Int32)))
else (some ((1 : Int32))) : Option (Int32))).bind fun v356 =>
(zrc g16 2 r8 (f_X2_bite g16 m352 r8 v353 v356)).bind fun (v357, m358) =>
if v351 = v357 then (zlt (v15 + (6 : Int32)) fun v359 =>
some (.inr (v359, g16, m358)))
else (some (.inl (.inl (((0 : Int32), g16, m358))))))
else if (v18 &&& (63 : Int32)) = (41 : Int32) then ((zsld n v0 (v15 + (1 : Int32))).bind fun v360 =>
(zsld n v0 (v15 + (2 : Int32))).bind fun v361 =>
(zrc g16 0 r3 (f_X0_told g16 m17 r3 v360 v361)).bind fun (v362, m363) =>
(zsld n v0 (v15 + (1 : Int32))).bind fun v364 =>
(zsld n v0 (v15 + (2 : Int32))).bind fun v365 =>
(zrc g16 2 r8 (f_X2_told g16 m363 r8 v364 v365)).bind fun (v366, m367) =>
if v362 = v366 then (zlt (v15 + (6 : Int32)) fun v368 =>
some (.inr (v368, g16, m367)))
else (some (.inl (.inl (((0 : Int32), g16, m367))))))
else if (v18 &&& (63 : Int32)) = (42 : Int32) then ((zrc g16 0 r3 (f_X0_whose g16 m17 r3)).bind fun (v369, m370) =>
(zrc g16 2 r8 (f_X2_whose g16 m370 r8)).bind fun (v371, m372) =>
if v369 = v371 then (zlt (v15 + (6 : Int32)) fun v373 =>
some (.inr (v373, g16, m372)))
else (some (.inl (.inl (((0 : Int32), g16, m372))))))
else if (v18 &&& (63 : Int32)) = (43 : Int32) then ((zrc g16 0 r3 (f_X0_fullest g16 m17 r3)).bind fun v374 =>
(zrc g16 2 r8 (f_X2_fullest g16 m17 r8)).bind fun v375 =>
if v374 = v375 then (zlt (v15 + (6 : Int32)) fun v376 =>
some (.inr (v376, g16, m17)))
else (some (.inl (.inl (((0 : Int32), g16, m17))))))
else if (v18 &&& (63 : Int32)) = (44 : Int32) then ((zrc g16 0 r3 (f_X0_calm g16 m17 r3)).bind fun v377 =>
(zrc g16 2 r8 (f_X2_calm g16 m17 r8)).bind fun v378 =>
if v377 = v378 then (zlt (v15 + (6 : Int32)) fun v379 =>
some (.inr (v379, g16, m17)))
else (some (.inl (.inl (((0 : Int32), g16, m17))))))
else if (v18 &&& (63 : Int32)) = (45 : Int32) then ((zsld n v0 (v15 + (1 : Int32))).bind fun v380 =>
(zrc g16 0 r3 (f_X0_ledger g16 m17 r3 v380)).bind fun v381 =>
(zsld n v0 (v15 + (1 : Int32))).bind fun v382 =>
(zrc g16 2 r8 (f_X2_ledger g16 m17 r8 v382)).bind fun v383 =>
if v381 = v383 then (zlt (v15 + (6 : Int32)) fun v384 =>
some (.inr (v384, g16, m17)))
else (some (.inl (.inl (((0 : Int32), g16, m17))))))
else if (v18 &&& (63 : Int32)) = (46 : Int32) then ((zrc g16 0 r3 (f_X0_image g16 m17 r3)).bind fun (v385, m386) =>
(zrc g16 2 r8 (f_X2_image g16 m386 r8)).bind fun (v387, m388) =>
if v385 = v387 then (zlt (v15 + (6 : Int32)) fun v389 =>
some (.inr (v389, g16, m388)))
else (some (.inl (.inl (((0 : Int32), g16, m388))))))
else if (v18 &&& (63 : Int32)) = (47 : Int32) then ((zrc g16 0 r3 (f_X0_back g16 m17 r3)).bind fun (v390, m391) =>
(zrc g16 2 r8 (f_X2_back g16 m391 r8)).bind fun (v392, m393) =>
if v390 = v392 then (zlt (v15 + (6 : Int32)) fun v394 =>
some (.inr (v394, g16, m393)))
else (some (.inl (.inl (((0 : Int32), g16, m393))))))
else if (v18 &&& (63 : Int32)) = (48 : Int32) then ((zsld n v0 (v15 + (1 : Int32))).bind fun v395 =>
(zrc g16 0 r3 (f_X0_about g16 m17 r3 v395)).bind fun v396 =>
(zsld n v0 (v15 + (1 : Int32))).bind fun v397 =>
(zrc g16 2 r8 (f_X2_about g16 m17 r8 v397)).bind fun v398 =>
if v396 = v398 then (zlt (v15 + (6 : Int32)) fun v399 =>
some (.inr (v399, g16, m17)))
else (some (.inl (.inl (((0 : Int32), g16, m17))))))
else (zlt (v15 + (6 : Int32)) fun v400 =>
some (.inr (v400, g16, m17))))
def f_L_law (n : Nat) (v0 : Nat → Int32) (g : zGd) (m : zMm) : Option (Int32 × zGd × zMm) :=
zlt (znewo g m 0) fun (g1, m2) =>
zlt (some (zZ g)) fun r3 =>
zob r3 ((f_X0_init g1 m2 r3).bind fun (g4, m5) =>
zlt (znewo g4 m5 2) fun (g6, m7) =>
zlt (some (zZ g4)) fun r8 =>
zob r8 ((f_X2_init g6 m7 r8).bind fun (g9, m10) =>
zEx (σ := zGd × zMm) (zLoop (b_L_law_18 n r3 r8 v0) zFuel ((0 : Int32), g9, m10)) fun (g12, m13) =>
some (((1 : Int32), g12, m13))))
set_option maxHeartbeats 40000000 in
theorem wk_L_law (X : zCx) (g : zGd) (m : zMm) (b n : Nat) (v0 : Nat → Int32) (hX : zScr X b n v0) (g0 : zGd) (m0 : zMm) (h : f_L_law n v0 g m = some ((1 : Int32), g0, m0)) (hxf : xf X = g0) (hxt : xt X = some .boolean) (hxr : xr X = .inl (some (.int 1))) (hxn : xn X = m0) : zG X cL_law 4 "QuiverKinLaw" "law" 8192 100000 0 [(0, va_rf (some b))] [] g m := by
  have Kret : ∀ (y0 : Int32) (y1 : zGd) (y2 : zMm), (y0, y1, y2) = ((1 : Int32), g0, m0) → zRe X y1 y2 (some (.int y0)) := by
    intro y0 y1 y2 e; cases e; exact ⟨hxf, hxr, hxn⟩
  unfold f_L_law at h
  refine gn_new znd_0 q158 dL_law_0 h (fun g1 m2 h => ?_)
  refine g_letr h (fun r3 h => ?_)
  refine g_dup dL_law_3 (zcat_r _) ?_
  obtain ⟨hs, h⟩ := zob_e h
  refine g_cIAn [] (fun g0 m0 e0 => ok_X0_init (xl X) g1 m2 r3 g0 m0 e0) (lw_meth q162) q123 q160 q161 rfl hy_X0_init rfl ⟨by decide, by decide⟩ rfl (zc_r zc_0) (by decide) hs dL_law_4 h (fun g4 m5 h => ?_)
  refine g_astore_n [(1, va_rf r3), (0, va_rf (some b))] dL_law_7 (by decide) (zf_r zf_0) rfl ?_
  refine gn_new znd_2 q1401 dL_law_8 h (fun g6 m7 h => ?_)
  refine g_letr h (fun r8 h => ?_)
  refine g_dup dL_law_11 (zcat_r _) ?_
  obtain ⟨hs, h⟩ := zob_e h
  refine g_cIAn [] (fun g0 m0 e0 => ok_X2_init (xl X) g6 m7 r8 g0 m0 e0) (lw_meth q1405) q126 q1403 q1404 rfl hy_X2_init rfl ⟨by decide, by decide⟩ rfl (zc_r zc_0) (by decide) hs dL_law_12 h (fun g9 m10 h => ?_)
  refine g_astore_n [(2, va_rf r8), (1, va_rf r3), (0, va_rf (some b))] dL_law_15 (by decide) (zf_r (zf_r zf_0)) rfl ?_
  refine g_iconst (v := (0 : Int32)) dL_law_16 (by decide) ?_
  refine g_istore_n [(3, .int (0 : Int32)), (2, va_rf r8), (1, va_rf r3), (0, va_rf (some b))] dL_law_17 (by decide) (zf_r (zf_r (zf_r zf_0))) rfl ?_
  obtain ⟨o11, h1, hl11, hr11⟩ := zEx_e h
  have K11 : ∀ (g12 : zGd) (m13 : zMm), o11 = .inr (g12, m13) → zG X cL_law 4 "QuiverKinLaw" "law" 8192 100000 1674 [] [] g12 m13 := by
    intro g12 m13 e
    have h := hr11 _ e
    refine g_iconst (v := (1 : Int32)) dL_law_1674 (by decide) ?_
    refine g_zret dL_law_1675 hxt rfl ?_
    have e := Option.some.inj h
    exact Kret _ _ _ e
  refine zG.sub [3, 2, 1, 0] rfl ?_
  refine zLoop_ok (Φ := (fun (q : Int32 × zGd × zMm) => match q with | (v15, g16, m17) => zG X cL_law 4 "QuiverKinLaw" "law" 8192 100000 18 [(0, va_rf (some b)), (1, va_rf r3), (2, va_rf r8), (3, .int v15)] [] g16 m17)) o11 ?_ zFuel _ h1
  rintro ⟨v15, g16, m17⟩ x14 h hl14 hr14
  unfold b_L_law_18 at h
  have K14 : ∀ (v15 : Int32) (g16 : zGd) (m17 : zMm), x14 = .inr (v15, g16, m17) → zG X cL_law 4 "QuiverKinLaw" "law" 8192 100000 18 [(0, va_rf (some b)), (1, va_rf r3), (2, va_rf r8), (3, .int v15)] [] g16 m17 := by
    intro v15 g16 m17 e
    exact hr14 _ e
  show zG X cL_law 4 "QuiverKinLaw" "law" 8192 100000 18 [(0, va_rf (some b)), (1, va_rf r3), (2, va_rf r8), (3, .int v15)] [] g16 m17
  refine g_iload_n dL_law_18 3 rfl ?_
  refine g_aload_n dL_law_19 0 rfl ?_
  refine g_salen hX dL_law_20 ?_
  refine g_bipush (v := (6 : Int32)) dL_law_21 (by decide) ?_
  refine g_isub dL_law_23 ?_
  refine g_icmp_gt 1674 dL_law_24 (by decide) (fun c => ?_) (fun c => ?_)
  · have h := zite_p h c
    refine zG.sub [] rfl ?_
    have e := Option.some.inj h
    have e := hl14 _ e.symm
    exact K11 _ _ e.symm
  · have h := zite_n h c
    refine g_aload_n dL_law_27 0 rfl ?_
    refine g_iload_n dL_law_28 3 rfl ?_
    refine g_sald hX  dL_law_29 h (fun v18 h => ?_)
    refine g_bipush (v := (63 : Int32)) dL_law_30 (by decide) ?_
    refine g_iand dL_law_32 ?_
    rcases Decidable.em ((v18 &&& (63 : Int32)) = (0 : Int32)) with c | c0
    · have h := zite_p h c
      refine g_tsw (v := (0 : Int32)) (off := 211) 244 dL_law_33 c (by decide) (by decide) (by decide) (by decide) ?_
      refine g_aload_n dL_law_244 1 rfl ?_
      refine g_aload_n dL_law_245 0 rfl ?_
      refine g_iload_n dL_law_246 3 rfl ?_
      refine g_iconst (v := (1 : Int32)) dL_law_247 (by decide) ?_
      refine g_iadd dL_law_248 ?_
      refine g_sald hX  dL_law_249 h (fun v19 h => ?_)
      refine g_aload_n dL_law_250 0 rfl ?_
      refine g_iload_n dL_law_251 3 rfl ?_
      refine g_iconst (v := (2 : Int32)) dL_law_252 (by decide) ?_
      refine g_iadd dL_law_253 ?_
      refine g_sald hX  dL_law_254 h (fun v20 h => ?_)
      refine g_cVMv (rv := fun x : Int32 => Value.int x) [.int v19, .int v20] (fun x0 m0 e0 => ok_X0_kin (xl X) g16 m17 r3 v19 v20 x0 m0 e0) zc0 (by decide) (lw_V q304 q305 q306 q123 q307) rfl hy_X0_kin rfl ⟨by decide, by decide⟩ rfl zc_0 (by decide) dL_law_255 h (fun v21 m22 h => ?_)
      refine g_aload_n dL_law_258 2 rfl ?_
      refine g_aload_n dL_law_259 0 rfl ?_
      refine g_iload_n dL_law_260 3 rfl ?_
      refine g_iconst (v := (1 : Int32)) dL_law_261 (by decide) ?_
      refine g_iadd dL_law_262 ?_
      refine g_sald hX  dL_law_263 h (fun v23 h => ?_)
      refine g_aload_n dL_law_264 0 rfl ?_
      refine g_iload_n dL_law_265 3 rfl ?_
      refine g_iconst (v := (2 : Int32)) dL_law_266 (by decide) ?_
      refine g_iadd dL_law_267 ?_
      refine g_sald hX  dL_law_268 h (fun v24 h => ?_)
      refine g_cVMv (rv := fun x : Int32 => Value.int x) [.int v23, .int v24] (fun x0 m0 e0 => ok_X2_kin (xl X) g16 m22 r8 v23 v24 x0 m0 e0) zc2 (by decide) (lw_V q1530 q1531 q1532 q126 q1533) rfl hy_X2_kin rfl ⟨by decide, by decide⟩ rfl (zc_i zc_0) (by decide) dL_law_269 h (fun v25 m26 h => ?_)
      refine g_icmp_eq 1668 dL_law_272 (by decide) (fun c => ?_) (fun c => ?_)
      · have h := zite_p h c
        refine g_iinc (v := (6 : Int32)) [(0, va_rf (some b)), (1, va_rf r3), (2, va_rf r8)] dL_law_1668 3 rfl (by decide) (by decide) (zf_r (zf_r (zf_r (zf_i zf_0)))) rfl h (fun v27 h => ?_)
        refine g_goto 18 dL_law_1671 (by decide) ?_
        refine zG.sub [1, 2, 3, 0] rfl ?_
        have e := Option.some.inj h
        exact K14 _ _ _ e.symm
      · have h := zite_n h c
        refine g_iconst (v := (0 : Int32)) dL_law_275 (by decide) ?_
        refine g_zret dL_law_276 hxt rfl ?_
        have e := Option.some.inj h
        have e := hl14 _ e.symm
        have e := hl11 _ e.symm
        exact Kret _ _ _ e
    have h := zite_n h c0
    rcases Decidable.em ((v18 &&& (63 : Int32)) = (1 : Int32)) with c | c1
    · have h := zite_p h c
      refine g_tsw (v := (1 : Int32)) (off := 244) 277 dL_law_33 c (by decide) (by decide) (by decide) (by decide) ?_
      refine g_aload_n dL_law_277 1 rfl ?_
      refine g_aload_n dL_law_278 0 rfl ?_
      refine g_iload_n dL_law_279 3 rfl ?_
      refine g_iconst (v := (1 : Int32)) dL_law_280 (by decide) ?_
      refine g_iadd dL_law_281 ?_
      refine g_sald hX  dL_law_282 h (fun v28 h => ?_)
      refine g_aload_n dL_law_283 0 rfl ?_
      refine g_iload_n dL_law_284 3 rfl ?_
      refine g_iconst (v := (2 : Int32)) dL_law_285 (by decide) ?_
      refine g_iadd dL_law_286 ?_
      refine g_sald hX  dL_law_287 h (fun v29 h => ?_)
      refine g_aload_n dL_law_288 0 rfl ?_
      refine g_iload_n dL_law_289 3 rfl ?_
      refine g_iconst (v := (3 : Int32)) dL_law_290 (by decide) ?_
      refine g_iadd dL_law_291 ?_
      refine g_sald hX  dL_law_292 h (fun v30 h => ?_)
      refine g_aload_n dL_law_293 0 rfl ?_
      refine g_iload_n dL_law_294 3 rfl ?_
      refine g_iconst (v := (4 : Int32)) dL_law_295 (by decide) ?_
      refine g_iadd dL_law_296 ?_
      refine g_sald hX  dL_law_297 h (fun v31 h => ?_)
      refine g_aload_n dL_law_298 0 rfl ?_
      refine g_iload_n dL_law_299 3 rfl ?_
      refine g_iconst (v := (5 : Int32)) dL_law_300 (by decide) ?_
      refine g_iadd dL_law_301 ?_
      refine g_sald hX  dL_law_302 h (fun v32 h => ?_)
      refine g_cVMv (rv := fun x : Int32 => Value.int x) [.int v28, .int v29, .int v30, .int v31, .int v32] (fun x0 m0 e0 => ok_X0_feed (xl X) g16 m17 r3 v28 v29 v30 v31 v32 x0 m0 e0) zc0 (by decide) (lw_V q319 q320 q321 q123 q322) rfl hy_X0_feed rfl ⟨by decide, by decide⟩ rfl zc_0 (by decide) dL_law_303 h (fun v33 m34 h => ?_)
      refine g_aload_n dL_law_306 2 rfl ?_
      refine g_aload_n dL_law_307 0 rfl ?_
      refine g_iload_n dL_law_308 3 rfl ?_
      refine g_iconst (v := (1 : Int32)) dL_law_309 (by decide) ?_
      refine g_iadd dL_law_310 ?_
      refine g_sald hX  dL_law_311 h (fun v35 h => ?_)
      refine g_aload_n dL_law_312 0 rfl ?_
      refine g_iload_n dL_law_313 3 rfl ?_
      refine g_iconst (v := (2 : Int32)) dL_law_314 (by decide) ?_
      refine g_iadd dL_law_315 ?_
      refine g_sald hX  dL_law_316 h (fun v36 h => ?_)
      refine g_aload_n dL_law_317 0 rfl ?_
      refine g_iload_n dL_law_318 3 rfl ?_
      refine g_iconst (v := (3 : Int32)) dL_law_319 (by decide) ?_
      refine g_iadd dL_law_320 ?_
      refine g_sald hX  dL_law_321 h (fun v37 h => ?_)
      refine g_aload_n dL_law_322 0 rfl ?_
      refine g_iload_n dL_law_323 3 rfl ?_
      refine g_iconst (v := (4 : Int32)) dL_law_324 (by decide) ?_
      refine g_iadd dL_law_325 ?_
      refine g_sald hX  dL_law_326 h (fun v38 h => ?_)
      refine g_aload_n dL_law_327 0 rfl ?_
      refine g_iload_n dL_law_328 3 rfl ?_
      refine g_iconst (v := (5 : Int32)) dL_law_329 (by decide) ?_
      refine g_iadd dL_law_330 ?_
      refine g_sald hX  dL_law_331 h (fun v39 h => ?_)
      refine g_cVMv (rv := fun x : Int32 => Value.int x) [.int v35, .int v36, .int v37, .int v38, .int v39] (fun x0 m0 e0 => ok_X2_feed (xl X) g16 m34 r8 v35 v36 v37 v38 v39 x0 m0 e0) zc2 (by decide) (lw_V q1549 q1550 q1551 q126 q1552) rfl hy_X2_feed rfl ⟨by decide, by decide⟩ rfl (zc_i zc_0) (by decide) dL_law_332 h (fun v40 m41 h => ?_)
      refine g_icmp_eq 1668 dL_law_335 (by decide) (fun c => ?_) (fun c => ?_)
      · have h := zite_p h c
        refine g_iinc (v := (6 : Int32)) [(0, va_rf (some b)), (1, va_rf r3), (2, va_rf r8)] dL_law_1668 3 rfl (by decide) (by decide) (zf_r (zf_r (zf_r (zf_i zf_0)))) rfl h (fun v42 h => ?_)
        refine g_goto 18 dL_law_1671 (by decide) ?_
        refine zG.sub [1, 2, 3, 0] rfl ?_
        have e := Option.some.inj h
        exact K14 _ _ _ e.symm
      · have h := zite_n h c
        refine g_iconst (v := (0 : Int32)) dL_law_338 (by decide) ?_
        refine g_zret dL_law_339 hxt rfl ?_
        have e := Option.some.inj h
        have e := hl14 _ e.symm
        have e := hl11 _ e.symm
        exact Kret _ _ _ e
    have h := zite_n h c1
    rcases Decidable.em ((v18 &&& (63 : Int32)) = (2 : Int32)) with c | c2
    · have h := zite_p h c
      refine g_tsw (v := (2 : Int32)) (off := 307) 340 dL_law_33 c (by decide) (by decide) (by decide) (by decide) ?_
      refine g_aload_n dL_law_340 1 rfl ?_
      refine g_aload_n dL_law_341 0 rfl ?_
      refine g_iload_n dL_law_342 3 rfl ?_
      refine g_iconst (v := (1 : Int32)) dL_law_343 (by decide) ?_
      refine g_iadd dL_law_344 ?_
      refine g_sald hX  dL_law_345 h (fun v43 h => ?_)
      refine g_cVMv (rv := fun x : Int32 => Value.int x) [.int v43] (fun x0 m0 e0 => ok_X0_end (xl X) g16 m17 r3 v43 x0 m0 e0) zc0 (by decide) (lw_V q327 q328 q329 q123 q330) rfl hy_X0_end rfl ⟨by decide, by decide⟩ rfl zc_0 (by decide) dL_law_346 h (fun v44 m45 h => ?_)
      refine g_aload_n dL_law_349 2 rfl ?_
      refine g_aload_n dL_law_350 0 rfl ?_
      refine g_iload_n dL_law_351 3 rfl ?_
      refine g_iconst (v := (1 : Int32)) dL_law_352 (by decide) ?_
      refine g_iadd dL_law_353 ?_
      refine g_sald hX  dL_law_354 h (fun v46 h => ?_)
      refine g_cVMv (rv := fun x : Int32 => Value.int x) [.int v46] (fun x0 m0 e0 => ok_X2_end (xl X) g16 m45 r8 v46 x0 m0 e0) zc2 (by decide) (lw_V q1557 q1558 q1559 q126 q1560) rfl hy_X2_end rfl ⟨by decide, by decide⟩ rfl (zc_i zc_0) (by decide) dL_law_355 h (fun v47 m48 h => ?_)
      refine g_icmp_eq 1668 dL_law_358 (by decide) (fun c => ?_) (fun c => ?_)
      · have h := zite_p h c
        refine g_iinc (v := (6 : Int32)) [(0, va_rf (some b)), (1, va_rf r3), (2, va_rf r8)] dL_law_1668 3 rfl (by decide) (by decide) (zf_r (zf_r (zf_r (zf_i zf_0)))) rfl h (fun v49 h => ?_)
        refine g_goto 18 dL_law_1671 (by decide) ?_
        refine zG.sub [1, 2, 3, 0] rfl ?_
        have e := Option.some.inj h
        exact K14 _ _ _ e.symm
      · have h := zite_n h c
        refine g_iconst (v := (0 : Int32)) dL_law_361 (by decide) ?_
        refine g_zret dL_law_362 hxt rfl ?_
        have e := Option.some.inj h
        have e := hl14 _ e.symm
        have e := hl11 _ e.symm
        exact Kret _ _ _ e
    have h := zite_n h c2
    rcases Decidable.em ((v18 &&& (63 : Int32)) = (3 : Int32)) with c | c3
    · have h := zite_p h c
      refine g_tsw (v := (3 : Int32)) (off := 330) 363 dL_law_33 c (by decide) (by decide) (by decide) (by decide) ?_
      refine g_aload_n dL_law_363 1 rfl ?_
      refine g_cVWAv (rv := fun x : Int32 => Value.int x) [] (fun x0 g0 m0 e0 => ok_X0_text (xl X) g16 m17 r3 x0 g0 m0 e0) zc0 (by decide) (lw_VW q331 q332 q333 q123 q334) rfl hy_X0_text rfl ⟨by decide, by decide⟩ rfl zc_0 (by decide) dL_law_364 h (fun v50 g51 m52 h => ?_)
      refine g_aload_n dL_law_367 2 rfl ?_
      refine g_cVMv (rv := fun x : Int32 => Value.int x) [] (fun x0 m0 e0 => ok_X2_text (xl X) g51 m52 r8 x0 m0 e0) zc2 (by decide) (lw_V q1561 q1562 q1563 q126 q1564) rfl hy_X2_text rfl ⟨by decide, by decide⟩ rfl (zc_i zc_0) (by decide) dL_law_368 h (fun v53 m54 h => ?_)
      refine g_icmp_eq 1668 dL_law_371 (by decide) (fun c => ?_) (fun c => ?_)
      · have h := zite_p h c
        refine g_iinc (v := (6 : Int32)) [(0, va_rf (some b)), (1, va_rf r3), (2, va_rf r8)] dL_law_1668 3 rfl (by decide) (by decide) (zf_r (zf_r (zf_r (zf_i zf_0)))) rfl h (fun v55 h => ?_)
        refine g_goto 18 dL_law_1671 (by decide) ?_
        refine zG.sub [1, 2, 3, 0] rfl ?_
        have e := Option.some.inj h
        exact K14 _ _ _ e.symm
      · have h := zite_n h c
        refine g_iconst (v := (0 : Int32)) dL_law_374 (by decide) ?_
        refine g_zret dL_law_375 hxt rfl ?_
        have e := Option.some.inj h
        have e := hl14 _ e.symm
        have e := hl11 _ e.symm
        exact Kret _ _ _ e
    have h := zite_n h c3
    rcases Decidable.em ((v18 &&& (63 : Int32)) = (4 : Int32)) with c | c4
    · have h := zite_p h c
      refine g_tsw (v := (4 : Int32)) (off := 343) 376 dL_law_33 c (by decide) (by decide) (by decide) (by decide) ?_
      refine g_aload_n dL_law_376 1 rfl ?_
      refine g_aload_n dL_law_377 0 rfl ?_
      refine g_iload_n dL_law_378 3 rfl ?_
      refine g_iconst (v := (1 : Int32)) dL_law_379 (by decide) ?_
      refine g_iadd dL_law_380 ?_
      refine g_sald hX  dL_law_381 h (fun v56 h => ?_)
      refine g_cVRv (rv := fun x : Int32 => Value.int x) [.int v56] (fun x0 e0 => ok_X0_fault (xl X) g16 m17 r3 v56 x0 e0) zc0 (by decide) (lw_V q873 q874 q875 q123 q876) rfl hy_X0_fault rfl ⟨by decide, by decide⟩ rfl zc_0 (by decide) dL_law_382 h (fun v57 h => ?_)
      refine g_aload_n dL_law_385 2 rfl ?_
      refine g_aload_n dL_law_386 0 rfl ?_
      refine g_iload_n dL_law_387 3 rfl ?_
      refine g_iconst (v := (1 : Int32)) dL_law_388 (by decide) ?_
      refine g_iadd dL_law_389 ?_
      refine g_sald hX  dL_law_390 h (fun v58 h => ?_)
      refine g_cVRv (rv := fun x : Int32 => Value.int x) [.int v58] (fun x0 e0 => ok_X2_fault (xl X) g16 m17 r8 v58 x0 e0) zc2 (by decide) (lw_V q1701 q1702 q1703 q126 q1704) rfl hy_X2_fault rfl ⟨by decide, by decide⟩ rfl (zc_i zc_0) (by decide) dL_law_391 h (fun v59 h => ?_)
      refine g_icmp_eq 1668 dL_law_394 (by decide) (fun c => ?_) (fun c => ?_)
      · have h := zite_p h c
        refine g_iinc (v := (6 : Int32)) [(0, va_rf (some b)), (1, va_rf r3), (2, va_rf r8)] dL_law_1668 3 rfl (by decide) (by decide) (zf_r (zf_r (zf_r (zf_i zf_0)))) rfl h (fun v60 h => ?_)
        refine g_goto 18 dL_law_1671 (by decide) ?_
        refine zG.sub [1, 2, 3, 0] rfl ?_
        have e := Option.some.inj h
        exact K14 _ _ _ e.symm
      · have h := zite_n h c
        refine g_iconst (v := (0 : Int32)) dL_law_397 (by decide) ?_
        refine g_zret dL_law_398 hxt rfl ?_
        have e := Option.some.inj h
        have e := hl14 _ e.symm
        have e := hl11 _ e.symm
        exact Kret _ _ _ e
    have h := zite_n h c4
    rcases Decidable.em ((v18 &&& (63 : Int32)) = (5 : Int32)) with c | c5
    · have h := zite_p h c
      refine g_tsw (v := (5 : Int32)) (off := 366) 399 dL_law_33 c (by decide) (by decide) (by decide) (by decide) ?_
      refine g_aload_n dL_law_399 1 rfl ?_
      refine g_aload_n dL_law_400 0 rfl ?_
      refine g_iload_n dL_law_401 3 rfl ?_
      refine g_iconst (v := (1 : Int32)) dL_law_402 (by decide) ?_
      refine g_iadd dL_law_403 ?_
      refine g_sald hX  dL_law_404 h (fun v61 h => ?_)
      refine g_cVMv (rv := fun x : Int32 => Value.int x) [.int v61] (fun x0 m0 e0 => ok_X0_by (xl X) g16 m17 r3 v61 x0 m0 e0) zc0 (by decide) (lw_V q877 q878 q879 q123 q880) rfl hy_X0_by rfl ⟨by decide, by decide⟩ rfl zc_0 (by decide) dL_law_405 h (fun v62 m63 h => ?_)
      refine g_aload_n dL_law_408 2 rfl ?_
      refine g_aload_n dL_law_409 0 rfl ?_
      refine g_iload_n dL_law_410 3 rfl ?_
      refine g_iconst (v := (1 : Int32)) dL_law_411 (by decide) ?_
      refine g_iadd dL_law_412 ?_
      refine g_sald hX  dL_law_413 h (fun v64 h => ?_)
      refine g_cVMv (rv := fun x : Int32 => Value.int x) [.int v64] (fun x0 m0 e0 => ok_X2_by (xl X) g16 m63 r8 v64 x0 m0 e0) zc2 (by decide) (lw_V q1705 q1706 q1707 q126 q1708) rfl hy_X2_by rfl ⟨by decide, by decide⟩ rfl (zc_i zc_0) (by decide) dL_law_414 h (fun v65 m66 h => ?_)
      refine g_icmp_eq 1668 dL_law_417 (by decide) (fun c => ?_) (fun c => ?_)
      · have h := zite_p h c
        refine g_iinc (v := (6 : Int32)) [(0, va_rf (some b)), (1, va_rf r3), (2, va_rf r8)] dL_law_1668 3 rfl (by decide) (by decide) (zf_r (zf_r (zf_r (zf_i zf_0)))) rfl h (fun v67 h => ?_)
        refine g_goto 18 dL_law_1671 (by decide) ?_
        refine zG.sub [1, 2, 3, 0] rfl ?_
        have e := Option.some.inj h
        exact K14 _ _ _ e.symm
      · have h := zite_n h c
        refine g_iconst (v := (0 : Int32)) dL_law_420 (by decide) ?_
        refine g_zret dL_law_421 hxt rfl ?_
        have e := Option.some.inj h
        have e := hl14 _ e.symm
        have e := hl11 _ e.symm
        exact Kret _ _ _ e
    have h := zite_n h c5
    rcases Decidable.em ((v18 &&& (63 : Int32)) = (6 : Int32)) with c | c6
    · have h := zite_p h c
      refine g_tsw (v := (6 : Int32)) (off := 389) 422 dL_law_33 c (by decide) (by decide) (by decide) (by decide) ?_
      refine g_aload_n dL_law_422 1 rfl ?_
      refine g_aload_n dL_law_423 0 rfl ?_
      refine g_iload_n dL_law_424 3 rfl ?_
      refine g_iconst (v := (1 : Int32)) dL_law_425 (by decide) ?_
      refine g_iadd dL_law_426 ?_
      refine g_sald hX  dL_law_427 h (fun v68 h => ?_)
      refine g_cVMv (rv := fun x : Int32 => Value.int x) [.int v68] (fun x0 m0 e0 => ok_X0_reach (xl X) g16 m17 r3 v68 x0 m0 e0) zc0 (by decide) (lw_V q885 q886 q887 q123 q888) rfl hy_X0_reach rfl ⟨by decide, by decide⟩ rfl zc_0 (by decide) dL_law_428 h (fun v69 m70 h => ?_)
      refine g_aload_n dL_law_431 2 rfl ?_
      refine g_aload_n dL_law_432 0 rfl ?_
      refine g_iload_n dL_law_433 3 rfl ?_
      refine g_iconst (v := (1 : Int32)) dL_law_434 (by decide) ?_
      refine g_iadd dL_law_435 ?_
      refine g_sald hX  dL_law_436 h (fun v71 h => ?_)
      refine g_cVMv (rv := fun x : Int32 => Value.int x) [.int v71] (fun x0 m0 e0 => ok_X2_reach (xl X) g16 m70 r8 v71 x0 m0 e0) zc2 (by decide) (lw_V q1713 q1714 q1715 q126 q1716) rfl hy_X2_reach rfl ⟨by decide, by decide⟩ rfl (zc_i zc_0) (by decide) dL_law_437 h (fun v72 m73 h => ?_)
      refine g_icmp_eq 1668 dL_law_440 (by decide) (fun c => ?_) (fun c => ?_)
      · have h := zite_p h c
        refine g_iinc (v := (6 : Int32)) [(0, va_rf (some b)), (1, va_rf r3), (2, va_rf r8)] dL_law_1668 3 rfl (by decide) (by decide) (zf_r (zf_r (zf_r (zf_i zf_0)))) rfl h (fun v74 h => ?_)
        refine g_goto 18 dL_law_1671 (by decide) ?_
        refine zG.sub [1, 2, 3, 0] rfl ?_
        have e := Option.some.inj h
        exact K14 _ _ _ e.symm
      · have h := zite_n h c
        refine g_iconst (v := (0 : Int32)) dL_law_443 (by decide) ?_
        refine g_zret dL_law_444 hxt rfl ?_
        have e := Option.some.inj h
        have e := hl14 _ e.symm
        have e := hl11 _ e.symm
        exact Kret _ _ _ e
    have h := zite_n h c6
    rcases Decidable.em ((v18 &&& (63 : Int32)) = (7 : Int32)) with c | c7
    · have h := zite_p h c
      refine g_tsw (v := (7 : Int32)) (off := 412) 445 dL_law_33 c (by decide) (by decide) (by decide) (by decide) ?_
      refine g_aload_n dL_law_445 1 rfl ?_
      refine g_aload_n dL_law_446 0 rfl ?_
      refine g_iload_n dL_law_447 3 rfl ?_
      refine g_iconst (v := (1 : Int32)) dL_law_448 (by decide) ?_
      refine g_iadd dL_law_449 ?_
      refine g_sald hX  dL_law_450 h (fun v75 h => ?_)
      refine g_aload_n dL_law_451 0 rfl ?_
      refine g_iload_n dL_law_452 3 rfl ?_
      refine g_iconst (v := (2 : Int32)) dL_law_453 (by decide) ?_
      refine g_iadd dL_law_454 ?_
      refine g_sald hX  dL_law_455 h (fun v76 h => ?_)
      refine g_cVMv (rv := fun x : Int32 => Value.int x) [.int v75, .int v76] (fun x0 m0 e0 => ok_X0_down (xl X) g16 m17 r3 v75 v76 x0 m0 e0) zc0 (by decide) (lw_V q908 q909 q910 q123 q911) rfl hy_X0_down rfl ⟨by decide, by decide⟩ rfl zc_0 (by decide) dL_law_456 h (fun v77 m78 h => ?_)
      refine g_aload_n dL_law_459 2 rfl ?_
      refine g_aload_n dL_law_460 0 rfl ?_
      refine g_iload_n dL_law_461 3 rfl ?_
      refine g_iconst (v := (1 : Int32)) dL_law_462 (by decide) ?_
      refine g_iadd dL_law_463 ?_
      refine g_sald hX  dL_law_464 h (fun v79 h => ?_)
      refine g_aload_n dL_law_465 0 rfl ?_
      refine g_iload_n dL_law_466 3 rfl ?_
      refine g_iconst (v := (2 : Int32)) dL_law_467 (by decide) ?_
      refine g_iadd dL_law_468 ?_
      refine g_sald hX  dL_law_469 h (fun v80 h => ?_)
      refine g_cVMv (rv := fun x : Int32 => Value.int x) [.int v79, .int v80] (fun x0 m0 e0 => ok_X2_down (xl X) g16 m78 r8 v79 v80 x0 m0 e0) zc2 (by decide) (lw_V q1732 q1733 q1734 q126 q1735) rfl hy_X2_down rfl ⟨by decide, by decide⟩ rfl (zc_i zc_0) (by decide) dL_law_470 h (fun v81 m82 h => ?_)
      refine g_icmp_eq 1668 dL_law_473 (by decide) (fun c => ?_) (fun c => ?_)
      · have h := zite_p h c
        refine g_iinc (v := (6 : Int32)) [(0, va_rf (some b)), (1, va_rf r3), (2, va_rf r8)] dL_law_1668 3 rfl (by decide) (by decide) (zf_r (zf_r (zf_r (zf_i zf_0)))) rfl h (fun v83 h => ?_)
        refine g_goto 18 dL_law_1671 (by decide) ?_
        refine zG.sub [1, 2, 3, 0] rfl ?_
        have e := Option.some.inj h
        exact K14 _ _ _ e.symm
      · have h := zite_n h c
        refine g_iconst (v := (0 : Int32)) dL_law_476 (by decide) ?_
        refine g_zret dL_law_477 hxt rfl ?_
        have e := Option.some.inj h
        have e := hl14 _ e.symm
        have e := hl11 _ e.symm
        exact Kret _ _ _ e
    have h := zite_n h c7
    rcases Decidable.em ((v18 &&& (63 : Int32)) = (8 : Int32)) with c | c8
    · have h := zite_p h c
      refine g_tsw (v := (8 : Int32)) (off := 445) 478 dL_law_33 c (by decide) (by decide) (by decide) (by decide) ?_
      refine g_aload_n dL_law_478 1 rfl ?_
      refine g_aload_n dL_law_479 0 rfl ?_
      refine g_iload_n dL_law_480 3 rfl ?_
      refine g_iconst (v := (1 : Int32)) dL_law_481 (by decide) ?_
      refine g_iadd dL_law_482 ?_
      refine g_sald hX  dL_law_483 h (fun v84 h => ?_)
      refine g_cVMv (rv := fun x : Int32 => Value.int x) [.int v84] (fun x0 m0 e0 => ok_X0_strap (xl X) g16 m17 r3 v84 x0 m0 e0) zc0 (by decide) (lw_V q916 q917 q918 q123 q919) rfl hy_X0_strap rfl ⟨by decide, by decide⟩ rfl zc_0 (by decide) dL_law_484 h (fun v85 m86 h => ?_)
      refine g_aload_n dL_law_487 2 rfl ?_
      refine g_aload_n dL_law_488 0 rfl ?_
      refine g_iload_n dL_law_489 3 rfl ?_
      refine g_iconst (v := (1 : Int32)) dL_law_490 (by decide) ?_
      refine g_iadd dL_law_491 ?_
      refine g_sald hX  dL_law_492 h (fun v87 h => ?_)
      refine g_cVMv (rv := fun x : Int32 => Value.int x) [.int v87] (fun x0 m0 e0 => ok_X2_strap (xl X) g16 m86 r8 v87 x0 m0 e0) zc2 (by decide) (lw_V q1740 q1741 q1742 q126 q1743) rfl hy_X2_strap rfl ⟨by decide, by decide⟩ rfl (zc_i zc_0) (by decide) dL_law_493 h (fun v88 m89 h => ?_)
      refine g_icmp_eq 1668 dL_law_496 (by decide) (fun c => ?_) (fun c => ?_)
      · have h := zite_p h c
        refine g_iinc (v := (6 : Int32)) [(0, va_rf (some b)), (1, va_rf r3), (2, va_rf r8)] dL_law_1668 3 rfl (by decide) (by decide) (zf_r (zf_r (zf_r (zf_i zf_0)))) rfl h (fun v90 h => ?_)
        refine g_goto 18 dL_law_1671 (by decide) ?_
        refine zG.sub [1, 2, 3, 0] rfl ?_
        have e := Option.some.inj h
        exact K14 _ _ _ e.symm
      · have h := zite_n h c
        refine g_iconst (v := (0 : Int32)) dL_law_499 (by decide) ?_
        refine g_zret dL_law_500 hxt rfl ?_
        have e := Option.some.inj h
        have e := hl14 _ e.symm
        have e := hl11 _ e.symm
        exact Kret _ _ _ e
    have h := zite_n h c8
    rcases Decidable.em ((v18 &&& (63 : Int32)) = (9 : Int32)) with c | c9
    · have h := zite_p h c
      refine g_tsw (v := (9 : Int32)) (off := 468) 501 dL_law_33 c (by decide) (by decide) (by decide) (by decide) ?_
      refine g_aload_n dL_law_501 1 rfl ?_
      refine g_aload_n dL_law_502 0 rfl ?_
      refine g_iload_n dL_law_503 3 rfl ?_
      refine g_iconst (v := (1 : Int32)) dL_law_504 (by decide) ?_
      refine g_iadd dL_law_505 ?_
      refine g_sald hX  dL_law_506 h (fun v91 h => ?_)
      refine g_aload_n dL_law_507 0 rfl ?_
      refine g_iload_n dL_law_508 3 rfl ?_
      refine g_iconst (v := (2 : Int32)) dL_law_509 (by decide) ?_
      refine g_iadd dL_law_510 ?_
      refine g_sald hX  dL_law_511 h (fun v92 h => ?_)
      refine g_cVMv (rv := fun x : Int32 => Value.int x) [.int v91, .int v92] (fun x0 m0 e0 => ok_X0_swap (xl X) g16 m17 r3 v91 v92 x0 m0 e0) zc0 (by decide) (lw_V q920 q921 q922 q123 q923) rfl hy_X0_swap rfl ⟨by decide, by decide⟩ rfl zc_0 (by decide) dL_law_512 h (fun v93 m94 h => ?_)
      refine g_aload_n dL_law_515 2 rfl ?_
      refine g_aload_n dL_law_516 0 rfl ?_
      refine g_iload_n dL_law_517 3 rfl ?_
      refine g_iconst (v := (1 : Int32)) dL_law_518 (by decide) ?_
      refine g_iadd dL_law_519 ?_
      refine g_sald hX  dL_law_520 h (fun v95 h => ?_)
      refine g_aload_n dL_law_521 0 rfl ?_
      refine g_iload_n dL_law_522 3 rfl ?_
      refine g_iconst (v := (2 : Int32)) dL_law_523 (by decide) ?_
      refine g_iadd dL_law_524 ?_
      refine g_sald hX  dL_law_525 h (fun v96 h => ?_)
      refine g_cVMv (rv := fun x : Int32 => Value.int x) [.int v95, .int v96] (fun x0 m0 e0 => ok_X2_swap (xl X) g16 m94 r8 v95 v96 x0 m0 e0) zc2 (by decide) (lw_V q1744 q1745 q1746 q126 q1747) rfl hy_X2_swap rfl ⟨by decide, by decide⟩ rfl (zc_i zc_0) (by decide) dL_law_526 h (fun v97 m98 h => ?_)
      refine g_icmp_eq 1668 dL_law_529 (by decide) (fun c => ?_) (fun c => ?_)
      · have h := zite_p h c
        refine g_iinc (v := (6 : Int32)) [(0, va_rf (some b)), (1, va_rf r3), (2, va_rf r8)] dL_law_1668 3 rfl (by decide) (by decide) (zf_r (zf_r (zf_r (zf_i zf_0)))) rfl h (fun v99 h => ?_)
        refine g_goto 18 dL_law_1671 (by decide) ?_
        refine zG.sub [1, 2, 3, 0] rfl ?_
        have e := Option.some.inj h
        exact K14 _ _ _ e.symm
      · have h := zite_n h c
        refine g_iconst (v := (0 : Int32)) dL_law_532 (by decide) ?_
        refine g_zret dL_law_533 hxt rfl ?_
        have e := Option.some.inj h
        have e := hl14 _ e.symm
        have e := hl11 _ e.symm
        exact Kret _ _ _ e
    have h := zite_n h c9
    rcases Decidable.em ((v18 &&& (63 : Int32)) = (10 : Int32)) with c | c10
    · have h := zite_p h c
      refine g_tsw (v := (10 : Int32)) (off := 501) 534 dL_law_33 c (by decide) (by decide) (by decide) (by decide) ?_
      refine g_aload_n dL_law_534 1 rfl ?_
      refine g_aload_n dL_law_535 0 rfl ?_
      refine g_iload_n dL_law_536 3 rfl ?_
      refine g_iconst (v := (1 : Int32)) dL_law_537 (by decide) ?_
      refine g_iadd dL_law_538 ?_
      refine g_sald hX  dL_law_539 h (fun v100 h => ?_)
      refine g_cVMv (rv := fun x : Int32 => Value.int x) [.int v100] (fun x0 m0 e0 => ok_X0_dinner (xl X) g16 m17 r3 v100 x0 m0 e0) zc0 (by decide) (lw_V q935 q936 q937 q123 q938) rfl hy_X0_dinner rfl ⟨by decide, by decide⟩ rfl zc_0 (by decide) dL_law_540 h (fun v101 m102 h => ?_)
      refine g_aload_n dL_law_543 2 rfl ?_
      refine g_aload_n dL_law_544 0 rfl ?_
      refine g_iload_n dL_law_545 3 rfl ?_
      refine g_iconst (v := (1 : Int32)) dL_law_546 (by decide) ?_
      refine g_iadd dL_law_547 ?_
      refine g_sald hX  dL_law_548 h (fun v103 h => ?_)
      refine g_cVMv (rv := fun x : Int32 => Value.int x) [.int v103] (fun x0 m0 e0 => ok_X2_dinner (xl X) g16 m102 r8 v103 x0 m0 e0) zc2 (by decide) (lw_V q1752 q1753 q1754 q126 q1755) rfl hy_X2_dinner rfl ⟨by decide, by decide⟩ rfl (zc_i zc_0) (by decide) dL_law_549 h (fun v104 m105 h => ?_)
      refine g_icmp_eq 1668 dL_law_552 (by decide) (fun c => ?_) (fun c => ?_)
      · have h := zite_p h c
        refine g_iinc (v := (6 : Int32)) [(0, va_rf (some b)), (1, va_rf r3), (2, va_rf r8)] dL_law_1668 3 rfl (by decide) (by decide) (zf_r (zf_r (zf_r (zf_i zf_0)))) rfl h (fun v106 h => ?_)
        refine g_goto 18 dL_law_1671 (by decide) ?_
        refine zG.sub [1, 2, 3, 0] rfl ?_
        have e := Option.some.inj h
        exact K14 _ _ _ e.symm
      · have h := zite_n h c
        refine g_iconst (v := (0 : Int32)) dL_law_555 (by decide) ?_
        refine g_zret dL_law_556 hxt rfl ?_
        have e := Option.some.inj h
        have e := hl14 _ e.symm
        have e := hl11 _ e.symm
        exact Kret _ _ _ e
    have h := zite_n h c10
    rcases Decidable.em ((v18 &&& (63 : Int32)) = (11 : Int32)) with c | c11
    · have h := zite_p h c
      refine g_tsw (v := (11 : Int32)) (off := 524) 557 dL_law_33 c (by decide) (by decide) (by decide) (by decide) ?_
      refine g_aload_n dL_law_557 1 rfl ?_
      refine g_aload_n dL_law_558 0 rfl ?_
      refine g_iload_n dL_law_559 3 rfl ?_
      refine g_iconst (v := (1 : Int32)) dL_law_560 (by decide) ?_
      refine g_iadd dL_law_561 ?_
      refine g_sald hX  dL_law_562 h (fun v107 h => ?_)
      refine g_cVMv (rv := fun x : Int32 => Value.int x) [.int v107] (fun x0 m0 e0 => ok_X0_played (xl X) g16 m17 r3 v107 x0 m0 e0) zc0 (by decide) (lw_V q1091 q1092 q1093 q123 q1094) rfl hy_X0_played rfl ⟨by decide, by decide⟩ rfl zc_0 (by decide) dL_law_563 h (fun v108 m109 h => ?_)
      refine g_aload_n dL_law_566 2 rfl ?_
      refine g_aload_n dL_law_567 0 rfl ?_
      refine g_iload_n dL_law_568 3 rfl ?_
      refine g_iconst (v := (1 : Int32)) dL_law_569 (by decide) ?_
      refine g_iadd dL_law_570 ?_
      refine g_sald hX  dL_law_571 h (fun v110 h => ?_)
      refine g_cVMv (rv := fun x : Int32 => Value.int x) [.int v110] (fun x0 m0 e0 => ok_X2_played (xl X) g16 m109 r8 v110 x0 m0 e0) zc2 (by decide) (lw_V q1833 q1834 q1835 q126 q1836) rfl hy_X2_played rfl ⟨by decide, by decide⟩ rfl (zc_i zc_0) (by decide) dL_law_572 h (fun v111 m112 h => ?_)
      refine g_icmp_eq 1668 dL_law_575 (by decide) (fun c => ?_) (fun c => ?_)
      · have h := zite_p h c
        refine g_iinc (v := (6 : Int32)) [(0, va_rf (some b)), (1, va_rf r3), (2, va_rf r8)] dL_law_1668 3 rfl (by decide) (by decide) (zf_r (zf_r (zf_r (zf_i zf_0)))) rfl h (fun v113 h => ?_)
        refine g_goto 18 dL_law_1671 (by decide) ?_
        refine zG.sub [1, 2, 3, 0] rfl ?_
        have e := Option.some.inj h
        exact K14 _ _ _ e.symm
      · have h := zite_n h c
        refine g_iconst (v := (0 : Int32)) dL_law_578 (by decide) ?_
        refine g_zret dL_law_579 hxt rfl ?_
        have e := Option.some.inj h
        have e := hl14 _ e.symm
        have e := hl11 _ e.symm
        exact Kret _ _ _ e
    have h := zite_n h c11
    rcases Decidable.em ((v18 &&& (63 : Int32)) = (12 : Int32)) with c | c12
    · have h := zite_p h c
      refine g_tsw (v := (12 : Int32)) (off := 547) 580 dL_law_33 c (by decide) (by decide) (by decide) (by decide) ?_
      refine g_aload_n dL_law_580 1 rfl ?_
      refine g_aload_n dL_law_581 0 rfl ?_
      refine g_iload_n dL_law_582 3 rfl ?_
      refine g_iconst (v := (1 : Int32)) dL_law_583 (by decide) ?_
      refine g_iadd dL_law_584 ?_
      refine g_sald hX  dL_law_585 h (fun v114 h => ?_)
      refine g_aload_n dL_law_586 0 rfl ?_
      refine g_iload_n dL_law_587 3 rfl ?_
      refine g_iconst (v := (2 : Int32)) dL_law_588 (by decide) ?_
      refine g_iadd dL_law_589 ?_
      refine g_sald hX  dL_law_590 h (fun v115 h => ?_)
      refine g_cVMv (rv := fun x : Int32 => Value.int x) [.int v114, .int v115] (fun x0 m0 e0 => ok_X0_years (xl X) g16 m17 r3 v114 v115 x0 m0 e0) zc0 (by decide) (lw_V q1128 q1129 q1130 q123 q1131) rfl hy_X0_years rfl ⟨by decide, by decide⟩ rfl zc_0 (by decide) dL_law_591 h (fun v116 m117 h => ?_)
      refine g_aload_n dL_law_594 2 rfl ?_
      refine g_aload_n dL_law_595 0 rfl ?_
      refine g_iload_n dL_law_596 3 rfl ?_
      refine g_iconst (v := (1 : Int32)) dL_law_597 (by decide) ?_
      refine g_iadd dL_law_598 ?_
      refine g_sald hX  dL_law_599 h (fun v118 h => ?_)
      refine g_aload_n dL_law_600 0 rfl ?_
      refine g_iload_n dL_law_601 3 rfl ?_
      refine g_iconst (v := (2 : Int32)) dL_law_602 (by decide) ?_
      refine g_iadd dL_law_603 ?_
      refine g_sald hX  dL_law_604 h (fun v119 h => ?_)
      refine g_cVMv (rv := fun x : Int32 => Value.int x) [.int v118, .int v119] (fun x0 m0 e0 => ok_X2_years (xl X) g16 m117 r8 v118 v119 x0 m0 e0) zc2 (by decide) (lw_V q1846 q1847 q1848 q126 q1849) rfl hy_X2_years rfl ⟨by decide, by decide⟩ rfl (zc_i zc_0) (by decide) dL_law_605 h (fun v120 m121 h => ?_)
      refine g_icmp_eq 1668 dL_law_608 (by decide) (fun c => ?_) (fun c => ?_)
      · have h := zite_p h c
        refine g_iinc (v := (6 : Int32)) [(0, va_rf (some b)), (1, va_rf r3), (2, va_rf r8)] dL_law_1668 3 rfl (by decide) (by decide) (zf_r (zf_r (zf_r (zf_i zf_0)))) rfl h (fun v122 h => ?_)
        refine g_goto 18 dL_law_1671 (by decide) ?_
        refine zG.sub [1, 2, 3, 0] rfl ?_
        have e := Option.some.inj h
        exact K14 _ _ _ e.symm
      · have h := zite_n h c
        refine g_iconst (v := (0 : Int32)) dL_law_611 (by decide) ?_
        refine g_zret dL_law_612 hxt rfl ?_
        have e := Option.some.inj h
        have e := hl14 _ e.symm
        have e := hl11 _ e.symm
        exact Kret _ _ _ e
    have h := zite_n h c12
    rcases Decidable.em ((v18 &&& (63 : Int32)) = (13 : Int32)) with c | c13
    · have h := zite_p h c
      refine g_tsw (v := (13 : Int32)) (off := 580) 613 dL_law_33 c (by decide) (by decide) (by decide) (by decide) ?_
      refine g_aload_n dL_law_613 1 rfl ?_
      refine g_cVMv (rv := fun x : Int32 => Value.int x) [] (fun x0 m0 e0 => ok_X0_undo (xl X) g16 m17 r3 x0 m0 e0) zc0 (by decide) (lw_V q1136 q1137 q1138 q123 q1139) rfl hy_X0_undo rfl ⟨by decide, by decide⟩ rfl zc_0 (by decide) dL_law_614 h (fun v123 m124 h => ?_)
      refine g_aload_n dL_law_617 2 rfl ?_
      refine g_cVMv (rv := fun x : Int32 => Value.int x) [] (fun x0 m0 e0 => ok_X2_undo (xl X) g16 m124 r8 x0 m0 e0) zc2 (by decide) (lw_V q1709 q1710 q1711 q126 q1712) rfl hy_X2_undo rfl ⟨by decide, by decide⟩ rfl (zc_i zc_0) (by decide) dL_law_618 h (fun v125 m126 h => ?_)
      refine g_icmp_eq 1668 dL_law_621 (by decide) (fun c => ?_) (fun c => ?_)
      · have h := zite_p h c
        refine g_iinc (v := (6 : Int32)) [(0, va_rf (some b)), (1, va_rf r3), (2, va_rf r8)] dL_law_1668 3 rfl (by decide) (by decide) (zf_r (zf_r (zf_r (zf_i zf_0)))) rfl h (fun v127 h => ?_)
        refine g_goto 18 dL_law_1671 (by decide) ?_
        refine zG.sub [1, 2, 3, 0] rfl ?_
        have e := Option.some.inj h
        exact K14 _ _ _ e.symm
      · have h := zite_n h c
        refine g_iconst (v := (0 : Int32)) dL_law_624 (by decide) ?_
        refine g_zret dL_law_625 hxt rfl ?_
        have e := Option.some.inj h
        have e := hl14 _ e.symm
        have e := hl11 _ e.symm
        exact Kret _ _ _ e
    have h := zite_n h c13
    rcases Decidable.em ((v18 &&& (63 : Int32)) = (14 : Int32)) with c | c14
    · have h := zite_p h c
      refine g_tsw (v := (14 : Int32)) (off := 593) 626 dL_law_33 c (by decide) (by decide) (by decide) (by decide) ?_
      refine g_aload_n dL_law_626 1 rfl ?_
      refine g_aload_n dL_law_627 0 rfl ?_
      refine g_iload_n dL_law_628 3 rfl ?_
      refine g_iconst (v := (1 : Int32)) dL_law_629 (by decide) ?_
      refine g_iadd dL_law_630 ?_
      refine g_sald hX  dL_law_631 h (fun v128 h => ?_)
      refine g_aload_n dL_law_632 0 rfl ?_
      refine g_iload_n dL_law_633 3 rfl ?_
      refine g_iconst (v := (2 : Int32)) dL_law_634 (by decide) ?_
      refine g_iadd dL_law_635 ?_
      refine g_sald hX  dL_law_636 h (fun v129 h => ?_)
      refine g_cVMv (rv := fun x : Int32 => Value.int x) [.int v128, .int v129] (fun x0 m0 e0 => ok_X0_of (xl X) g16 m17 r3 v128 v129 x0 m0 e0) zc0 (by decide) (lw_V q1141 q1142 q1143 q123 q1144) rfl hy_X0_of rfl ⟨by decide, by decide⟩ rfl zc_0 (by decide) dL_law_637 h (fun v130 m131 h => ?_)
      refine g_aload_n dL_law_640 2 rfl ?_
      refine g_aload_n dL_law_641 0 rfl ?_
      refine g_iload_n dL_law_642 3 rfl ?_
      refine g_iconst (v := (1 : Int32)) dL_law_643 (by decide) ?_
      refine g_iadd dL_law_644 ?_
      refine g_sald hX  dL_law_645 h (fun v132 h => ?_)
      refine g_aload_n dL_law_646 0 rfl ?_
      refine g_iload_n dL_law_647 3 rfl ?_
      refine g_iconst (v := (2 : Int32)) dL_law_648 (by decide) ?_
      refine g_iadd dL_law_649 ?_
      refine g_sald hX  dL_law_650 h (fun v133 h => ?_)
      refine g_cVMv (rv := fun x : Int32 => Value.int x) [.int v132, .int v133] (fun x0 m0 e0 => ok_X2_of (xl X) g16 m131 r8 v132 v133 x0 m0 e0) zc2 (by decide) (lw_V q1854 q1855 q1856 q126 q1857) rfl hy_X2_of rfl ⟨by decide, by decide⟩ rfl (zc_i zc_0) (by decide) dL_law_651 h (fun v134 m135 h => ?_)
      refine g_icmp_eq 1668 dL_law_654 (by decide) (fun c => ?_) (fun c => ?_)
      · have h := zite_p h c
        refine g_iinc (v := (6 : Int32)) [(0, va_rf (some b)), (1, va_rf r3), (2, va_rf r8)] dL_law_1668 3 rfl (by decide) (by decide) (zf_r (zf_r (zf_r (zf_i zf_0)))) rfl h (fun v136 h => ?_)
        refine g_goto 18 dL_law_1671 (by decide) ?_
        refine zG.sub [1, 2, 3, 0] rfl ?_
        have e := Option.some.inj h
        exact K14 _ _ _ e.symm
      · have h := zite_n h c
        refine g_iconst (v := (0 : Int32)) dL_law_657 (by decide) ?_
        refine g_zret dL_law_658 hxt rfl ?_
        have e := Option.some.inj h
        have e := hl14 _ e.symm
        have e := hl11 _ e.symm
        exact Kret _ _ _ e
    have h := zite_n h c14
    rcases Decidable.em ((v18 &&& (63 : Int32)) = (15 : Int32)) with c | c15
    · have h := zite_p h c
      refine g_tsw (v := (15 : Int32)) (off := 626) 659 dL_law_33 c (by decide) (by decide) (by decide) (by decide) ?_
      refine g_aload_n dL_law_659 1 rfl ?_
      refine g_aload_n dL_law_660 0 rfl ?_
      refine g_iload_n dL_law_661 3 rfl ?_
      refine g_iconst (v := (1 : Int32)) dL_law_662 (by decide) ?_
      refine g_iadd dL_law_663 ?_
      refine g_sald hX  dL_law_664 h (fun v137 h => ?_)
      refine g_cVRv (rv := fun x : Int32 => Value.int x) [.int v137] (fun x0 e0 => ok_X0_at (xl X) g16 m17 r3 v137 x0 e0) zc0 (by decide) (lw_V q1145 q1146 q1147 q123 q1148) rfl hy_X0_at rfl ⟨by decide, by decide⟩ rfl zc_0 (by decide) dL_law_665 h (fun v138 h => ?_)
      refine g_aload_n dL_law_668 2 rfl ?_
      refine g_aload_n dL_law_669 0 rfl ?_
      refine g_iload_n dL_law_670 3 rfl ?_
      refine g_iconst (v := (1 : Int32)) dL_law_671 (by decide) ?_
      refine g_iadd dL_law_672 ?_
      refine g_sald hX  dL_law_673 h (fun v139 h => ?_)
      refine g_cVRv (rv := fun x : Int32 => Value.int x) [.int v139] (fun x0 e0 => ok_X2_at (xl X) g16 m17 r8 v139 x0 e0) zc2 (by decide) (lw_V q1858 q1859 q1860 q126 q1861) rfl hy_X2_at rfl ⟨by decide, by decide⟩ rfl (zc_i zc_0) (by decide) dL_law_674 h (fun v140 h => ?_)
      refine g_icmp_eq 1668 dL_law_677 (by decide) (fun c => ?_) (fun c => ?_)
      · have h := zite_p h c
        refine g_iinc (v := (6 : Int32)) [(0, va_rf (some b)), (1, va_rf r3), (2, va_rf r8)] dL_law_1668 3 rfl (by decide) (by decide) (zf_r (zf_r (zf_r (zf_i zf_0)))) rfl h (fun v141 h => ?_)
        refine g_goto 18 dL_law_1671 (by decide) ?_
        refine zG.sub [1, 2, 3, 0] rfl ?_
        have e := Option.some.inj h
        exact K14 _ _ _ e.symm
      · have h := zite_n h c
        refine g_iconst (v := (0 : Int32)) dL_law_680 (by decide) ?_
        refine g_zret dL_law_681 hxt rfl ?_
        have e := Option.some.inj h
        have e := hl14 _ e.symm
        have e := hl11 _ e.symm
        exact Kret _ _ _ e
    have h := zite_n h c15
    rcases Decidable.em ((v18 &&& (63 : Int32)) = (16 : Int32)) with c | c16
    · have h := zite_p h c
      refine g_tsw (v := (16 : Int32)) (off := 649) 682 dL_law_33 c (by decide) (by decide) (by decide) (by decide) ?_
      refine g_aload_n dL_law_682 1 rfl ?_
      refine g_aload_n dL_law_683 0 rfl ?_
      refine g_iload_n dL_law_684 3 rfl ?_
      refine g_iconst (v := (1 : Int32)) dL_law_685 (by decide) ?_
      refine g_iadd dL_law_686 ?_
      refine g_sald hX  dL_law_687 h (fun v142 h => ?_)
      refine g_cVRv (rv := fun x : Int32 => Value.int x) [.int v142] (fun x0 e0 => ok_X0_is (xl X) g16 m17 r3 v142 x0 e0) zc0 (by decide) (lw_V q1149 q1150 q1151 q123 q1152) rfl hy_X0_is rfl ⟨by decide, by decide⟩ rfl zc_0 (by decide) dL_law_688 h (fun v143 h => ?_)
      refine g_aload_n dL_law_691 2 rfl ?_
      refine g_aload_n dL_law_692 0 rfl ?_
      refine g_iload_n dL_law_693 3 rfl ?_
      refine g_iconst (v := (1 : Int32)) dL_law_694 (by decide) ?_
      refine g_iadd dL_law_695 ?_
      refine g_sald hX  dL_law_696 h (fun v144 h => ?_)
      refine g_cVRv (rv := fun x : Int32 => Value.int x) [.int v144] (fun x0 e0 => ok_X2_is (xl X) g16 m17 r8 v144 x0 e0) zc2 (by decide) (lw_V q1862 q1863 q1864 q126 q1865) rfl hy_X2_is rfl ⟨by decide, by decide⟩ rfl (zc_i zc_0) (by decide) dL_law_697 h (fun v145 h => ?_)
      refine g_icmp_eq 1668 dL_law_700 (by decide) (fun c => ?_) (fun c => ?_)
      · have h := zite_p h c
        refine g_iinc (v := (6 : Int32)) [(0, va_rf (some b)), (1, va_rf r3), (2, va_rf r8)] dL_law_1668 3 rfl (by decide) (by decide) (zf_r (zf_r (zf_r (zf_i zf_0)))) rfl h (fun v146 h => ?_)
        refine g_goto 18 dL_law_1671 (by decide) ?_
        refine zG.sub [1, 2, 3, 0] rfl ?_
        have e := Option.some.inj h
        exact K14 _ _ _ e.symm
      · have h := zite_n h c
        refine g_iconst (v := (0 : Int32)) dL_law_703 (by decide) ?_
        refine g_zret dL_law_704 hxt rfl ?_
        have e := Option.some.inj h
        have e := hl14 _ e.symm
        have e := hl11 _ e.symm
        exact Kret _ _ _ e
    have h := zite_n h c16
    rcases Decidable.em ((v18 &&& (63 : Int32)) = (17 : Int32)) with c | c17
    · have h := zite_p h c
      refine g_tsw (v := (17 : Int32)) (off := 672) 705 dL_law_33 c (by decide) (by decide) (by decide) (by decide) ?_
      refine g_aload_n dL_law_705 1 rfl ?_
      refine g_aload_n dL_law_706 0 rfl ?_
      refine g_iload_n dL_law_707 3 rfl ?_
      refine g_iconst (v := (1 : Int32)) dL_law_708 (by decide) ?_
      refine g_iadd dL_law_709 ?_
      refine g_sald hX  dL_law_710 h (fun v147 h => ?_)
      refine g_aload_n dL_law_711 0 rfl ?_
      refine g_iload_n dL_law_712 3 rfl ?_
      refine g_iconst (v := (2 : Int32)) dL_law_713 (by decide) ?_
      refine g_iadd dL_law_714 ?_
      refine g_sald hX  dL_law_715 h (fun v148 h => ?_)
      refine g_cVRv (rv := fun x : Int32 => Value.int x) [.int v147, .int v148] (fun x0 e0 => ok_X0_book (xl X) g16 m17 r3 v147 v148 x0 e0) zc0 (by decide) (lw_V q1157 q1158 q1159 q123 q1160) rfl hy_X0_book rfl ⟨by decide, by decide⟩ rfl zc_0 (by decide) dL_law_716 h (fun v149 h => ?_)
      refine g_aload_n dL_law_719 2 rfl ?_
      refine g_aload_n dL_law_720 0 rfl ?_
      refine g_iload_n dL_law_721 3 rfl ?_
      refine g_iconst (v := (1 : Int32)) dL_law_722 (by decide) ?_
      refine g_iadd dL_law_723 ?_
      refine g_sald hX  dL_law_724 h (fun v150 h => ?_)
      refine g_aload_n dL_law_725 0 rfl ?_
      refine g_iload_n dL_law_726 3 rfl ?_
      refine g_iconst (v := (2 : Int32)) dL_law_727 (by decide) ?_
      refine g_iadd dL_law_728 ?_
      refine g_sald hX  dL_law_729 h (fun v151 h => ?_)
      refine g_cVRv (rv := fun x : Int32 => Value.int x) [.int v150, .int v151] (fun x0 e0 => ok_X2_book (xl X) g16 m17 r8 v150 v151 x0 e0) zc2 (by decide) (lw_V q1866 q1867 q1868 q126 q1869) rfl hy_X2_book rfl ⟨by decide, by decide⟩ rfl (zc_i zc_0) (by decide) dL_law_730 h (fun v152 h => ?_)
      refine g_icmp_eq 1668 dL_law_733 (by decide) (fun c => ?_) (fun c => ?_)
      · have h := zite_p h c
        refine g_iinc (v := (6 : Int32)) [(0, va_rf (some b)), (1, va_rf r3), (2, va_rf r8)] dL_law_1668 3 rfl (by decide) (by decide) (zf_r (zf_r (zf_r (zf_i zf_0)))) rfl h (fun v153 h => ?_)
        refine g_goto 18 dL_law_1671 (by decide) ?_
        refine zG.sub [1, 2, 3, 0] rfl ?_
        have e := Option.some.inj h
        exact K14 _ _ _ e.symm
      · have h := zite_n h c
        refine g_iconst (v := (0 : Int32)) dL_law_736 (by decide) ?_
        refine g_zret dL_law_737 hxt rfl ?_
        have e := Option.some.inj h
        have e := hl14 _ e.symm
        have e := hl11 _ e.symm
        exact Kret _ _ _ e
    have h := zite_n h c17
    rcases Decidable.em ((v18 &&& (63 : Int32)) = (18 : Int32)) with c | c18
    · have h := zite_p h c
      refine g_tsw (v := (18 : Int32)) (off := 705) 738 dL_law_33 c (by decide) (by decide) (by decide) (by decide) ?_
      refine g_aload_n dL_law_738 1 rfl ?_
      refine g_aload_n dL_law_739 0 rfl ?_
      refine g_iload_n dL_law_740 3 rfl ?_
      refine g_iconst (v := (1 : Int32)) dL_law_741 (by decide) ?_
      refine g_iadd dL_law_742 ?_
      refine g_sald hX  dL_law_743 h (fun v154 h => ?_)
      refine g_aload_n dL_law_744 0 rfl ?_
      refine g_iload_n dL_law_745 3 rfl ?_
      refine g_iconst (v := (2 : Int32)) dL_law_746 (by decide) ?_
      refine g_iadd dL_law_747 ?_
      refine g_sald hX  dL_law_748 h (fun v155 h => ?_)
      refine g_cVMv (rv := fun x : Int32 => Value.int x) [.int v154, .int v155] (fun x0 m0 e0 => ok_X0_foretold (xl X) g16 m17 r3 v154 v155 x0 m0 e0) zc0 (by decide) (lw_V q1161 q1162 q1163 q123 q1164) rfl hy_X0_foretold rfl ⟨by decide, by decide⟩ rfl zc_0 (by decide) dL_law_749 h (fun v156 m157 h => ?_)
      refine g_aload_n dL_law_752 2 rfl ?_
      refine g_aload_n dL_law_753 0 rfl ?_
      refine g_iload_n dL_law_754 3 rfl ?_
      refine g_iconst (v := (1 : Int32)) dL_law_755 (by decide) ?_
      refine g_iadd dL_law_756 ?_
      refine g_sald hX  dL_law_757 h (fun v158 h => ?_)
      refine g_aload_n dL_law_758 0 rfl ?_
      refine g_iload_n dL_law_759 3 rfl ?_
      refine g_iconst (v := (2 : Int32)) dL_law_760 (by decide) ?_
      refine g_iadd dL_law_761 ?_
      refine g_sald hX  dL_law_762 h (fun v159 h => ?_)
      refine g_cVMv (rv := fun x : Int32 => Value.int x) [.int v158, .int v159] (fun x0 m0 e0 => ok_X2_foretold (xl X) g16 m157 r8 v158 v159 x0 m0 e0) zc2 (by decide) (lw_V q1886 q1887 q1888 q126 q1889) rfl hy_X2_foretold rfl ⟨by decide, by decide⟩ rfl (zc_i zc_0) (by decide) dL_law_763 h (fun v160 m161 h => ?_)
      refine g_icmp_eq 1668 dL_law_766 (by decide) (fun c => ?_) (fun c => ?_)
      · have h := zite_p h c
        refine g_iinc (v := (6 : Int32)) [(0, va_rf (some b)), (1, va_rf r3), (2, va_rf r8)] dL_law_1668 3 rfl (by decide) (by decide) (zf_r (zf_r (zf_r (zf_i zf_0)))) rfl h (fun v162 h => ?_)
        refine g_goto 18 dL_law_1671 (by decide) ?_
        refine zG.sub [1, 2, 3, 0] rfl ?_
        have e := Option.some.inj h
        exact K14 _ _ _ e.symm
      · have h := zite_n h c
        refine g_iconst (v := (0 : Int32)) dL_law_769 (by decide) ?_
        refine g_zret dL_law_770 hxt rfl ?_
        have e := Option.some.inj h
        have e := hl14 _ e.symm
        have e := hl11 _ e.symm
        exact Kret _ _ _ e
    have h := zite_n h c18
    rcases Decidable.em ((v18 &&& (63 : Int32)) = (19 : Int32)) with c | c19
    · have h := zite_p h c
      refine g_tsw (v := (19 : Int32)) (off := 738) 771 dL_law_33 c (by decide) (by decide) (by decide) (by decide) ?_
      refine g_aload_n dL_law_771 1 rfl ?_
      refine g_aload_n dL_law_772 0 rfl ?_
      refine g_iload_n dL_law_773 3 rfl ?_
      refine g_iconst (v := (1 : Int32)) dL_law_774 (by decide) ?_
      refine g_iadd dL_law_775 ?_
      refine g_sald hX  dL_law_776 h (fun v163 h => ?_)
      refine g_aload_n dL_law_777 0 rfl ?_
      refine g_iload_n dL_law_778 3 rfl ?_
      refine g_iconst (v := (2 : Int32)) dL_law_779 (by decide) ?_
      refine g_iadd dL_law_780 ?_
      refine g_sald hX  dL_law_781 h (fun v164 h => ?_)
      refine g_aload_n dL_law_782 0 rfl ?_
      refine g_iload_n dL_law_783 3 rfl ?_
      refine g_iconst (v := (3 : Int32)) dL_law_784 (by decide) ?_
      refine g_iadd dL_law_785 ?_
      refine g_sald hX  dL_law_786 h (fun v165 h => ?_)
      refine g_cVMv (rv := fun x : Int32 => Value.int x) [.int v163, .int v164, .int v165] (fun x0 m0 e0 => ok_X0_spite (xl X) g16 m17 r3 v163 v164 v165 x0 m0 e0) zc0 (by decide) (lw_V q1165 q1166 q1167 q123 q1168) rfl hy_X0_spite rfl ⟨by decide, by decide⟩ rfl zc_0 (by decide) dL_law_787 h (fun v166 m167 h => ?_)
      refine g_aload_n dL_law_790 2 rfl ?_
      refine g_aload_n dL_law_791 0 rfl ?_
      refine g_iload_n dL_law_792 3 rfl ?_
      refine g_iconst (v := (1 : Int32)) dL_law_793 (by decide) ?_
      refine g_iadd dL_law_794 ?_
      refine g_sald hX  dL_law_795 h (fun v168 h => ?_)
      refine g_aload_n dL_law_796 0 rfl ?_
      refine g_iload_n dL_law_797 3 rfl ?_
      refine g_iconst (v := (2 : Int32)) dL_law_798 (by decide) ?_
      refine g_iadd dL_law_799 ?_
      refine g_sald hX  dL_law_800 h (fun v169 h => ?_)
      refine g_aload_n dL_law_801 0 rfl ?_
      refine g_iload_n dL_law_802 3 rfl ?_
      refine g_iconst (v := (3 : Int32)) dL_law_803 (by decide) ?_
      refine g_iadd dL_law_804 ?_
      refine g_sald hX  dL_law_805 h (fun v170 h => ?_)
      refine g_cVMv (rv := fun x : Int32 => Value.int x) [.int v168, .int v169, .int v170] (fun x0 m0 e0 => ok_X2_spite (xl X) g16 m167 r8 v168 v169 v170 x0 m0 e0) zc2 (by decide) (lw_V q1541 q1542 q1543 q126 q1544) rfl hy_X2_spite rfl ⟨by decide, by decide⟩ rfl (zc_i zc_0) (by decide) dL_law_806 h (fun v171 m172 h => ?_)
      refine g_icmp_eq 1668 dL_law_809 (by decide) (fun c => ?_) (fun c => ?_)
      · have h := zite_p h c
        refine g_iinc (v := (6 : Int32)) [(0, va_rf (some b)), (1, va_rf r3), (2, va_rf r8)] dL_law_1668 3 rfl (by decide) (by decide) (zf_r (zf_r (zf_r (zf_i zf_0)))) rfl h (fun v173 h => ?_)
        refine g_goto 18 dL_law_1671 (by decide) ?_
        refine zG.sub [1, 2, 3, 0] rfl ?_
        have e := Option.some.inj h
        exact K14 _ _ _ e.symm
      · have h := zite_n h c
        refine g_iconst (v := (0 : Int32)) dL_law_812 (by decide) ?_
        refine g_zret dL_law_813 hxt rfl ?_
        have e := Option.some.inj h
        have e := hl14 _ e.symm
        have e := hl11 _ e.symm
        exact Kret _ _ _ e
    have h := zite_n h c19
    rcases Decidable.em ((v18 &&& (63 : Int32)) = (20 : Int32)) with c | c20
    · have h := zite_p h c
      refine g_tsw (v := (20 : Int32)) (off := 781) 814 dL_law_33 c (by decide) (by decide) (by decide) (by decide) ?_
      refine g_aload_n dL_law_814 1 rfl ?_
      refine g_aload_n dL_law_815 0 rfl ?_
      refine g_iload_n dL_law_816 3 rfl ?_
      refine g_iconst (v := (1 : Int32)) dL_law_817 (by decide) ?_
      refine g_iadd dL_law_818 ?_
      refine g_sald hX  dL_law_819 h (fun v174 h => ?_)
      obtain ⟨o175, h1, h2⟩ := zB_e h
      have K175 : ∀ (v176 : Int32), o175 = v176 → zG X cL_law 4 "QuiverKinLaw" "law" 8192 100000 828 [(0, va_rf (some b)), (1, va_rf r3), (2, va_rf r8), (3, .int v15)] [.int v176, va_rf r3] g16 m17 := by
        intro v176 e
        rw [e] at h2
        have h := h2
        refine g_cVMv (rv := fun x : Int32 => Value.int x) [.int v176] (fun x0 m0 e0 => ok_X0_round (xl X) g16 m17 r3 v176 x0 m0 e0) zc0 (by decide) (lw_V q1169 q1170 q1171 q123 q1172) rfl hy_X0_round rfl ⟨by decide, by decide⟩ rfl zc_0 (by decide) dL_law_828 h (fun v177 m178 h => ?_)
        refine g_aload_n dL_law_831 2 rfl ?_
        refine g_aload_n dL_law_832 0 rfl ?_
        refine g_iload_n dL_law_833 3 rfl ?_
        refine g_iconst (v := (1 : Int32)) dL_law_834 (by decide) ?_
        refine g_iadd dL_law_835 ?_
        refine g_sald hX  dL_law_836 h (fun v179 h => ?_)
        obtain ⟨o180, h1, h2⟩ := zB_e h
        have K180 : ∀ (v181 : Int32), o180 = v181 → zG X cL_law 4 "QuiverKinLaw" "law" 8192 100000 845 [(0, va_rf (some b)), (1, va_rf r3), (2, va_rf r8), (3, .int v15)] [.int v181, va_rf r8, .int v177] g16 m178 := by
          intro v181 e
          rw [e] at h2
          have h := h2
          refine g_cVMv (rv := fun x : Int32 => Value.int x) [.int v181] (fun x0 m0 e0 => ok_X2_round (xl X) g16 m178 r8 v181 x0 m0 e0) zc2 (by decide) (lw_V q1890 q1891 q1892 q126 q1893) rfl hy_X2_round rfl ⟨by decide, by decide⟩ rfl (zc_i zc_0) (by decide) dL_law_845 h (fun v182 m183 h => ?_)
          refine g_icmp_eq 1668 dL_law_848 (by decide) (fun c => ?_) (fun c => ?_)
          · have h := zite_p h c
            refine g_iinc (v := (6 : Int32)) [(0, va_rf (some b)), (1, va_rf r3), (2, va_rf r8)] dL_law_1668 3 rfl (by decide) (by decide) (zf_r (zf_r (zf_r (zf_i zf_0)))) rfl h (fun v184 h => ?_)
            refine g_goto 18 dL_law_1671 (by decide) ?_
            refine zG.sub [1, 2, 3, 0] rfl ?_
            have e := Option.some.inj h
            exact K14 _ _ _ e.symm
          · have h := zite_n h c
            refine g_iconst (v := (0 : Int32)) dL_law_851 (by decide) ?_
            refine g_zret dL_law_852 hxt rfl ?_
            have e := Option.some.inj h
            have e := hl14 _ e.symm
            have e := hl11 _ e.symm
            exact Kret _ _ _ e
        have h := h1
        refine g_if_eq 844 dL_law_837 (by decide) (fun c => ?_) (fun c => ?_)
        · have h := zite_p h c
          refine g_iconst (v := (0 : Int32)) dL_law_844 (by decide) ?_
          refine zG.sub [0, 1, 2, 3] rfl ?_
          have e := Option.some.inj h
          exact K180 _ e.symm
        · have h := zite_n h c
          refine g_iconst (v := (1 : Int32)) dL_law_840 (by decide) ?_
          refine g_goto 845 dL_law_841 (by decide) ?_
          refine zG.sub [0, 1, 2, 3] rfl ?_
          have e := Option.some.inj h
          exact K180 _ e.symm
      have h := h1
      refine g_if_eq 827 dL_law_820 (by decide) (fun c => ?_) (fun c => ?_)
      · have h := zite_p h c
        refine g_iconst (v := (0 : Int32)) dL_law_827 (by decide) ?_
        refine zG.sub [0, 1, 2, 3] rfl ?_
        have e := Option.some.inj h
        exact K175 _ e.symm
      · have h := zite_n h c
        refine g_iconst (v := (1 : Int32)) dL_law_823 (by decide) ?_
        refine g_goto 828 dL_law_824 (by decide) ?_
        refine zG.sub [0, 1, 2, 3] rfl ?_
        have e := Option.some.inj h
        exact K175 _ e.symm
    have h := zite_n h c20
    rcases Decidable.em ((v18 &&& (63 : Int32)) = (21 : Int32)) with c | c21
    · have h := zite_p h c
      refine g_tsw (v := (21 : Int32)) (off := 820) 853 dL_law_33 c (by decide) (by decide) (by decide) (by decide) ?_
      refine g_aload_n dL_law_853 1 rfl ?_
      refine g_aload_n dL_law_854 0 rfl ?_
      refine g_iload_n dL_law_855 3 rfl ?_
      refine g_iconst (v := (1 : Int32)) dL_law_856 (by decide) ?_
      refine g_iadd dL_law_857 ?_
      refine g_sald hX  dL_law_858 h (fun v185 h => ?_)
      refine g_cVMv (rv := fun x : Int32 => Value.int x) [.int v185] (fun x0 m0 e0 => ok_X0_seating (xl X) g16 m17 r3 v185 x0 m0 e0) zc0 (by decide) (lw_V q1187 q1188 q1189 q123 q1190) rfl hy_X0_seating rfl ⟨by decide, by decide⟩ rfl zc_0 (by decide) dL_law_859 h (fun v186 m187 h => ?_)
      refine g_aload_n dL_law_862 2 rfl ?_
      refine g_aload_n dL_law_863 0 rfl ?_
      refine g_iload_n dL_law_864 3 rfl ?_
      refine g_iconst (v := (1 : Int32)) dL_law_865 (by decide) ?_
      refine g_iadd dL_law_866 ?_
      refine g_sald hX  dL_law_867 h (fun v188 h => ?_)
      refine g_cVMv (rv := fun x : Int32 => Value.int x) [.int v188] (fun x0 m0 e0 => ok_X2_seating (xl X) g16 m187 r8 v188 x0 m0 e0) zc2 (by decide) (lw_V q1914 q1915 q1916 q126 q1917) rfl hy_X2_seating rfl ⟨by decide, by decide⟩ rfl (zc_i zc_0) (by decide) dL_law_868 h (fun v189 m190 h => ?_)
      refine g_icmp_eq 1668 dL_law_871 (by decide) (fun c => ?_) (fun c => ?_)
      · have h := zite_p h c
        refine g_iinc (v := (6 : Int32)) [(0, va_rf (some b)), (1, va_rf r3), (2, va_rf r8)] dL_law_1668 3 rfl (by decide) (by decide) (zf_r (zf_r (zf_r (zf_i zf_0)))) rfl h (fun v191 h => ?_)
        refine g_goto 18 dL_law_1671 (by decide) ?_
        refine zG.sub [1, 2, 3, 0] rfl ?_
        have e := Option.some.inj h
        exact K14 _ _ _ e.symm
      · have h := zite_n h c
        refine g_iconst (v := (0 : Int32)) dL_law_874 (by decide) ?_
        refine g_zret dL_law_875 hxt rfl ?_
        have e := Option.some.inj h
        have e := hl14 _ e.symm
        have e := hl11 _ e.symm
        exact Kret _ _ _ e
    have h := zite_n h c21
    rcases Decidable.em ((v18 &&& (63 : Int32)) = (22 : Int32)) with c | c22
    · have h := zite_p h c
      refine g_tsw (v := (22 : Int32)) (off := 843) 876 dL_law_33 c (by decide) (by decide) (by decide) (by decide) ?_
      refine g_aload_n dL_law_876 1 rfl ?_
      refine g_cVMv (rv := fun x : Int32 => Value.int x) [] (fun x0 m0 e0 => ok_X0_seatings (xl X) g16 m17 r3 x0 m0 e0) zc0 (by decide) (lw_V q1191 q1192 q1193 q123 q1194) rfl hy_X0_seatings rfl ⟨by decide, by decide⟩ rfl zc_0 (by decide) dL_law_877 h (fun v192 m193 h => ?_)
      refine g_aload_n dL_law_880 2 rfl ?_
      refine g_cVMv (rv := fun x : Int32 => Value.int x) [] (fun x0 m0 e0 => ok_X2_seatings (xl X) g16 m193 r8 x0 m0 e0) zc2 (by decide) (lw_V q1918 q1919 q1920 q126 q1921) rfl hy_X2_seatings rfl ⟨by decide, by decide⟩ rfl (zc_i zc_0) (by decide) dL_law_881 h (fun v194 m195 h => ?_)
      refine g_icmp_eq 1668 dL_law_884 (by decide) (fun c => ?_) (fun c => ?_)
      · have h := zite_p h c
        refine g_iinc (v := (6 : Int32)) [(0, va_rf (some b)), (1, va_rf r3), (2, va_rf r8)] dL_law_1668 3 rfl (by decide) (by decide) (zf_r (zf_r (zf_r (zf_i zf_0)))) rfl h (fun v196 h => ?_)
        refine g_goto 18 dL_law_1671 (by decide) ?_
        refine zG.sub [1, 2, 3, 0] rfl ?_
        have e := Option.some.inj h
        exact K14 _ _ _ e.symm
      · have h := zite_n h c
        refine g_iconst (v := (0 : Int32)) dL_law_887 (by decide) ?_
        refine g_zret dL_law_888 hxt rfl ?_
        have e := Option.some.inj h
        have e := hl14 _ e.symm
        have e := hl11 _ e.symm
        exact Kret _ _ _ e
    have h := zite_n h c22
    rcases Decidable.em ((v18 &&& (63 : Int32)) = (23 : Int32)) with c | c23
    · have h := zite_p h c
      refine g_tsw (v := (23 : Int32)) (off := 856) 889 dL_law_33 c (by decide) (by decide) (by decide) (by decide) ?_
      refine g_aload_n dL_law_889 1 rfl ?_
      refine g_cVRv (rv := fun x : Int32 => Value.int x) [] (fun x0 e0 => ok_X0_spiteNow (xl X) g16 m17 r3 x0 e0) zc0 (by decide) (lw_V q1195 q1196 q1197 q123 q1198) rfl hy_X0_spiteNow rfl ⟨by decide, by decide⟩ rfl zc_0 (by decide) dL_law_890 h (fun v197 h => ?_)
      refine g_aload_n dL_law_893 2 rfl ?_
      refine g_cVMv (rv := fun x : Int32 => Value.int x) [] (fun x0 m0 e0 => ok_X2_spiteNow (xl X) g16 m17 r8 x0 m0 e0) zc2 (by decide) (lw_V q1922 q1923 q1924 q126 q1925) rfl hy_X2_spiteNow rfl ⟨by decide, by decide⟩ rfl (zc_i zc_0) (by decide) dL_law_894 h (fun v198 m199 h => ?_)
      refine g_icmp_eq 1668 dL_law_897 (by decide) (fun c => ?_) (fun c => ?_)
      · have h := zite_p h c
        refine g_iinc (v := (6 : Int32)) [(0, va_rf (some b)), (1, va_rf r3), (2, va_rf r8)] dL_law_1668 3 rfl (by decide) (by decide) (zf_r (zf_r (zf_r (zf_i zf_0)))) rfl h (fun v200 h => ?_)
        refine g_goto 18 dL_law_1671 (by decide) ?_
        refine zG.sub [1, 2, 3, 0] rfl ?_
        have e := Option.some.inj h
        exact K14 _ _ _ e.symm
      · have h := zite_n h c
        refine g_iconst (v := (0 : Int32)) dL_law_900 (by decide) ?_
        refine g_zret dL_law_901 hxt rfl ?_
        have e := Option.some.inj h
        have e := hl14 _ e.symm
        have e := hl11 _ e.symm
        exact Kret _ _ _ e
    have h := zite_n h c23
    rcases Decidable.em ((v18 &&& (63 : Int32)) = (24 : Int32)) with c | c24
    · have h := zite_p h c
      refine g_tsw (v := (24 : Int32)) (off := 869) 902 dL_law_33 c (by decide) (by decide) (by decide) (by decide) ?_
      refine g_aload_n dL_law_902 1 rfl ?_
      refine g_aload_n dL_law_903 0 rfl ?_
      refine g_iload_n dL_law_904 3 rfl ?_
      refine g_iconst (v := (1 : Int32)) dL_law_905 (by decide) ?_
      refine g_iadd dL_law_906 ?_
      refine g_sald hX  dL_law_907 h (fun v201 h => ?_)
      refine g_cVMv (rv := fun x : Int32 => Value.int x) [.int v201] (fun x0 m0 e0 => ok_X0_mend (xl X) g16 m17 r3 v201 x0 m0 e0) zc0 (by decide) (lw_V q1199 q1200 q1201 q123 q1202) rfl hy_X0_mend rfl ⟨by decide, by decide⟩ rfl zc_0 (by decide) dL_law_908 h (fun v202 m203 h => ?_)
      refine g_aload_n dL_law_911 2 rfl ?_
      refine g_aload_n dL_law_912 0 rfl ?_
      refine g_iload_n dL_law_913 3 rfl ?_
      refine g_iconst (v := (1 : Int32)) dL_law_914 (by decide) ?_
      refine g_iadd dL_law_915 ?_
      refine g_sald hX  dL_law_916 h (fun v204 h => ?_)
      refine g_cVMv (rv := fun x : Int32 => Value.int x) [.int v204] (fun x0 m0 e0 => ok_X2_mend (xl X) g16 m203 r8 v204 x0 m0 e0) zc2 (by decide) (lw_V q1930 q1931 q1932 q126 q1933) rfl hy_X2_mend rfl ⟨by decide, by decide⟩ rfl (zc_i zc_0) (by decide) dL_law_917 h (fun v205 m206 h => ?_)
      refine g_icmp_eq 1668 dL_law_920 (by decide) (fun c => ?_) (fun c => ?_)
      · have h := zite_p h c
        refine g_iinc (v := (6 : Int32)) [(0, va_rf (some b)), (1, va_rf r3), (2, va_rf r8)] dL_law_1668 3 rfl (by decide) (by decide) (zf_r (zf_r (zf_r (zf_i zf_0)))) rfl h (fun v207 h => ?_)
        refine g_goto 18 dL_law_1671 (by decide) ?_
        refine zG.sub [1, 2, 3, 0] rfl ?_
        have e := Option.some.inj h
        exact K14 _ _ _ e.symm
      · have h := zite_n h c
        refine g_iconst (v := (0 : Int32)) dL_law_923 (by decide) ?_
        refine g_zret dL_law_924 hxt rfl ?_
        have e := Option.some.inj h
        have e := hl14 _ e.symm
        have e := hl11 _ e.symm
        exact Kret _ _ _ e
    have h := zite_n h c24
    rcases Decidable.em ((v18 &&& (63 : Int32)) = (25 : Int32)) with c | c25
    · have h := zite_p h c
      refine g_tsw (v := (25 : Int32)) (off := 892) 925 dL_law_33 c (by decide) (by decide) (by decide) (by decide) ?_
      refine g_aload_n dL_law_925 1 rfl ?_
      refine g_aload_n dL_law_926 0 rfl ?_
      refine g_iload_n dL_law_927 3 rfl ?_
      refine g_iconst (v := (1 : Int32)) dL_law_928 (by decide) ?_
      refine g_iadd dL_law_929 ?_
      refine g_sald hX  dL_law_930 h (fun v208 h => ?_)
      refine g_aload_n dL_law_931 0 rfl ?_
      refine g_iload_n dL_law_932 3 rfl ?_
      refine g_iconst (v := (2 : Int32)) dL_law_933 (by decide) ?_
      refine g_iadd dL_law_934 ?_
      refine g_sald hX  dL_law_935 h (fun v209 h => ?_)
      refine g_cVMv (rv := fun x : Int32 => Value.int x) [.int v208, .int v209] (fun x0 m0 e0 => ok_X0_hedge (xl X) g16 m17 r3 v208 v209 x0 m0 e0) zc0 (by decide) (lw_V q1208 q1209 q1210 q123 q1211) rfl hy_X0_hedge rfl ⟨by decide, by decide⟩ rfl zc_0 (by decide) dL_law_936 h (fun v210 m211 h => ?_)
      refine g_aload_n dL_law_939 2 rfl ?_
      refine g_aload_n dL_law_940 0 rfl ?_
      refine g_iload_n dL_law_941 3 rfl ?_
      refine g_iconst (v := (1 : Int32)) dL_law_942 (by decide) ?_
      refine g_iadd dL_law_943 ?_
      refine g_sald hX  dL_law_944 h (fun v212 h => ?_)
      refine g_aload_n dL_law_945 0 rfl ?_
      refine g_iload_n dL_law_946 3 rfl ?_
      refine g_iconst (v := (2 : Int32)) dL_law_947 (by decide) ?_
      refine g_iadd dL_law_948 ?_
      refine g_sald hX  dL_law_949 h (fun v213 h => ?_)
      refine g_cVMv (rv := fun x : Int32 => Value.int x) [.int v212, .int v213] (fun x0 m0 e0 => ok_X2_hedge (xl X) g16 m211 r8 v212 v213 x0 m0 e0) zc2 (by decide) (lw_V q1934 q1935 q1936 q126 q1937) rfl hy_X2_hedge rfl ⟨by decide, by decide⟩ rfl (zc_i zc_0) (by decide) dL_law_950 h (fun v214 m215 h => ?_)
      refine g_icmp_eq 1668 dL_law_953 (by decide) (fun c => ?_) (fun c => ?_)
      · have h := zite_p h c
        refine g_iinc (v := (6 : Int32)) [(0, va_rf (some b)), (1, va_rf r3), (2, va_rf r8)] dL_law_1668 3 rfl (by decide) (by decide) (zf_r (zf_r (zf_r (zf_i zf_0)))) rfl h (fun v216 h => ?_)
        refine g_goto 18 dL_law_1671 (by decide) ?_
        refine zG.sub [1, 2, 3, 0] rfl ?_
        have e := Option.some.inj h
        exact K14 _ _ _ e.symm
      · have h := zite_n h c
        refine g_iconst (v := (0 : Int32)) dL_law_956 (by decide) ?_
        refine g_zret dL_law_957 hxt rfl ?_
        have e := Option.some.inj h
        have e := hl14 _ e.symm
        have e := hl11 _ e.symm
        exact Kret _ _ _ e
    have h := zite_n h c25
    rcases Decidable.em ((v18 &&& (63 : Int32)) = (26 : Int32)) with c | c26
    · have h := zite_p h c
      refine g_tsw (v := (26 : Int32)) (off := 925) 958 dL_law_33 c (by decide) (by decide) (by decide) (by decide) ?_
      refine g_aload_n dL_law_958 1 rfl ?_
      refine g_aload_n dL_law_959 0 rfl ?_
      refine g_iload_n dL_law_960 3 rfl ?_
      refine g_iconst (v := (1 : Int32)) dL_law_961 (by decide) ?_
      refine g_iadd dL_law_962 ?_
      refine g_sald hX  dL_law_963 h (fun v217 h => ?_)
      refine g_aload_n dL_law_964 0 rfl ?_
      refine g_iload_n dL_law_965 3 rfl ?_
      refine g_iconst (v := (2 : Int32)) dL_law_966 (by decide) ?_
      refine g_iadd dL_law_967 ?_
      refine g_sald hX  dL_law_968 h (fun v218 h => ?_)
      refine g_aload_n dL_law_969 0 rfl ?_
      refine g_iload_n dL_law_970 3 rfl ?_
      refine g_iconst (v := (3 : Int32)) dL_law_971 (by decide) ?_
      refine g_iadd dL_law_972 ?_
      refine g_sald hX  dL_law_973 h (fun v219 h => ?_)
      refine g_cVMv (rv := fun x : Int32 => Value.int x) [.int v217, .int v218, .int v219] (fun x0 m0 e0 => ok_X0_flight (xl X) g16 m17 r3 v217 v218 v219 x0 m0 e0) zc0 (by decide) (lw_V q1212 q1213 q1214 q123 q1215) rfl hy_X0_flight rfl ⟨by decide, by decide⟩ rfl zc_0 (by decide) dL_law_974 h (fun v220 m221 h => ?_)
      refine g_aload_n dL_law_977 2 rfl ?_
      refine g_aload_n dL_law_978 0 rfl ?_
      refine g_iload_n dL_law_979 3 rfl ?_
      refine g_iconst (v := (1 : Int32)) dL_law_980 (by decide) ?_
      refine g_iadd dL_law_981 ?_
      refine g_sald hX  dL_law_982 h (fun v222 h => ?_)
      refine g_aload_n dL_law_983 0 rfl ?_
      refine g_iload_n dL_law_984 3 rfl ?_
      refine g_iconst (v := (2 : Int32)) dL_law_985 (by decide) ?_
      refine g_iadd dL_law_986 ?_
      refine g_sald hX  dL_law_987 h (fun v223 h => ?_)
      refine g_aload_n dL_law_988 0 rfl ?_
      refine g_iload_n dL_law_989 3 rfl ?_
      refine g_iconst (v := (3 : Int32)) dL_law_990 (by decide) ?_
      refine g_iadd dL_law_991 ?_
      refine g_sald hX  dL_law_992 h (fun v224 h => ?_)
      refine g_cVMv (rv := fun x : Int32 => Value.int x) [.int v222, .int v223, .int v224] (fun x0 m0 e0 => ok_X2_flight (xl X) g16 m221 r8 v222 v223 v224 x0 m0 e0) zc2 (by decide) (lw_V q1938 q1939 q1940 q126 q1941) rfl hy_X2_flight rfl ⟨by decide, by decide⟩ rfl (zc_i zc_0) (by decide) dL_law_993 h (fun v225 m226 h => ?_)
      refine g_icmp_eq 1668 dL_law_996 (by decide) (fun c => ?_) (fun c => ?_)
      · have h := zite_p h c
        refine g_iinc (v := (6 : Int32)) [(0, va_rf (some b)), (1, va_rf r3), (2, va_rf r8)] dL_law_1668 3 rfl (by decide) (by decide) (zf_r (zf_r (zf_r (zf_i zf_0)))) rfl h (fun v227 h => ?_)
        refine g_goto 18 dL_law_1671 (by decide) ?_
        refine zG.sub [1, 2, 3, 0] rfl ?_
        have e := Option.some.inj h
        exact K14 _ _ _ e.symm
      · have h := zite_n h c
        refine g_iconst (v := (0 : Int32)) dL_law_999 (by decide) ?_
        refine g_zret dL_law_1000 hxt rfl ?_
        have e := Option.some.inj h
        have e := hl14 _ e.symm
        have e := hl11 _ e.symm
        exact Kret _ _ _ e
    have h := zite_n h c26
    rcases Decidable.em ((v18 &&& (63 : Int32)) = (27 : Int32)) with c | c27
    · have h := zite_p h c
      refine g_tsw (v := (27 : Int32)) (off := 968) 1001 dL_law_33 c (by decide) (by decide) (by decide) (by decide) ?_
      refine g_aload_n dL_law_1001 1 rfl ?_
      refine g_aload_n dL_law_1002 0 rfl ?_
      refine g_iload_n dL_law_1003 3 rfl ?_
      refine g_iconst (v := (1 : Int32)) dL_law_1004 (by decide) ?_
      refine g_iadd dL_law_1005 ?_
      refine g_sald hX  dL_law_1006 h (fun v228 h => ?_)
      refine g_aload_n dL_law_1007 0 rfl ?_
      refine g_iload_n dL_law_1008 3 rfl ?_
      refine g_iconst (v := (2 : Int32)) dL_law_1009 (by decide) ?_
      refine g_iadd dL_law_1010 ?_
      refine g_sald hX  dL_law_1011 h (fun v229 h => ?_)
      refine g_cVMv (rv := fun x : Int32 => Value.int x) [.int v228, .int v229] (fun x0 m0 e0 => ok_X0_comes (xl X) g16 m17 r3 v228 v229 x0 m0 e0) zc0 (by decide) (lw_V q1229 q1230 q1231 q123 q1232) rfl hy_X0_comes rfl ⟨by decide, by decide⟩ rfl zc_0 (by decide) dL_law_1012 h (fun v230 m231 h => ?_)
      refine g_aload_n dL_law_1015 2 rfl ?_
      refine g_aload_n dL_law_1016 0 rfl ?_
      refine g_iload_n dL_law_1017 3 rfl ?_
      refine g_iconst (v := (1 : Int32)) dL_law_1018 (by decide) ?_
      refine g_iadd dL_law_1019 ?_
      refine g_sald hX  dL_law_1020 h (fun v232 h => ?_)
      refine g_aload_n dL_law_1021 0 rfl ?_
      refine g_iload_n dL_law_1022 3 rfl ?_
      refine g_iconst (v := (2 : Int32)) dL_law_1023 (by decide) ?_
      refine g_iadd dL_law_1024 ?_
      refine g_sald hX  dL_law_1025 h (fun v233 h => ?_)
      refine g_cVMv (rv := fun x : Int32 => Value.int x) [.int v232, .int v233] (fun x0 m0 e0 => ok_X2_comes (xl X) g16 m231 r8 v232 v233 x0 m0 e0) zc2 (by decide) (lw_V q1955 q1956 q1957 q126 q1958) rfl hy_X2_comes rfl ⟨by decide, by decide⟩ rfl (zc_i zc_0) (by decide) dL_law_1026 h (fun v234 m235 h => ?_)
      refine g_icmp_eq 1668 dL_law_1029 (by decide) (fun c => ?_) (fun c => ?_)
      · have h := zite_p h c
        refine g_iinc (v := (6 : Int32)) [(0, va_rf (some b)), (1, va_rf r3), (2, va_rf r8)] dL_law_1668 3 rfl (by decide) (by decide) (zf_r (zf_r (zf_r (zf_i zf_0)))) rfl h (fun v236 h => ?_)
        refine g_goto 18 dL_law_1671 (by decide) ?_
        refine zG.sub [1, 2, 3, 0] rfl ?_
        have e := Option.some.inj h
        exact K14 _ _ _ e.symm
      · have h := zite_n h c
        refine g_iconst (v := (0 : Int32)) dL_law_1032 (by decide) ?_
        refine g_zret dL_law_1033 hxt rfl ?_
        have e := Option.some.inj h
        have e := hl14 _ e.symm
        have e := hl11 _ e.symm
        exact Kret _ _ _ e
    have h := zite_n h c27
    rcases Decidable.em ((v18 &&& (63 : Int32)) = (28 : Int32)) with c | c28
    · have h := zite_p h c
      refine g_tsw (v := (28 : Int32)) (off := 1001) 1034 dL_law_33 c (by decide) (by decide) (by decide) (by decide) ?_
      refine g_aload_n dL_law_1034 1 rfl ?_
      refine g_aload_n dL_law_1035 0 rfl ?_
      refine g_iload_n dL_law_1036 3 rfl ?_
      refine g_iconst (v := (1 : Int32)) dL_law_1037 (by decide) ?_
      refine g_iadd dL_law_1038 ?_
      refine g_sald hX  dL_law_1039 h (fun v237 h => ?_)
      refine g_aload_n dL_law_1040 0 rfl ?_
      refine g_iload_n dL_law_1041 3 rfl ?_
      refine g_iconst (v := (2 : Int32)) dL_law_1042 (by decide) ?_
      refine g_iadd dL_law_1043 ?_
      refine g_sald hX  dL_law_1044 h (fun v238 h => ?_)
      refine g_aload_n dL_law_1045 0 rfl ?_
      refine g_iload_n dL_law_1046 3 rfl ?_
      refine g_iconst (v := (3 : Int32)) dL_law_1047 (by decide) ?_
      refine g_iadd dL_law_1048 ?_
      refine g_sald hX  dL_law_1049 h (fun v239 h => ?_)
      refine g_cVMv (rv := fun x : Int32 => Value.int x) [.int v237, .int v238, .int v239] (fun x0 m0 e0 => ok_X0_guess (xl X) g16 m17 r3 v237 v238 v239 x0 m0 e0) zc0 (by decide) (lw_V q1233 q1234 q1235 q123 q1236) rfl hy_X0_guess rfl ⟨by decide, by decide⟩ rfl zc_0 (by decide) dL_law_1050 h (fun v240 m241 h => ?_)
      refine g_aload_n dL_law_1053 2 rfl ?_
      refine g_aload_n dL_law_1054 0 rfl ?_
      refine g_iload_n dL_law_1055 3 rfl ?_
      refine g_iconst (v := (1 : Int32)) dL_law_1056 (by decide) ?_
      refine g_iadd dL_law_1057 ?_
      refine g_sald hX  dL_law_1058 h (fun v242 h => ?_)
      refine g_aload_n dL_law_1059 0 rfl ?_
      refine g_iload_n dL_law_1060 3 rfl ?_
      refine g_iconst (v := (2 : Int32)) dL_law_1061 (by decide) ?_
      refine g_iadd dL_law_1062 ?_
      refine g_sald hX  dL_law_1063 h (fun v243 h => ?_)
      refine g_aload_n dL_law_1064 0 rfl ?_
      refine g_iload_n dL_law_1065 3 rfl ?_
      refine g_iconst (v := (3 : Int32)) dL_law_1066 (by decide) ?_
      refine g_iadd dL_law_1067 ?_
      refine g_sald hX  dL_law_1068 h (fun v244 h => ?_)
      refine g_cVMv (rv := fun x : Int32 => Value.int x) [.int v242, .int v243, .int v244] (fun x0 m0 e0 => ok_X2_guess (xl X) g16 m241 r8 v242 v243 v244 x0 m0 e0) zc2 (by decide) (lw_V q1962 q1963 q1964 q126 q1965) rfl hy_X2_guess rfl ⟨by decide, by decide⟩ rfl (zc_i zc_0) (by decide) dL_law_1069 h (fun v245 m246 h => ?_)
      refine g_icmp_eq 1668 dL_law_1072 (by decide) (fun c => ?_) (fun c => ?_)
      · have h := zite_p h c
        refine g_iinc (v := (6 : Int32)) [(0, va_rf (some b)), (1, va_rf r3), (2, va_rf r8)] dL_law_1668 3 rfl (by decide) (by decide) (zf_r (zf_r (zf_r (zf_i zf_0)))) rfl h (fun v247 h => ?_)
        refine g_goto 18 dL_law_1671 (by decide) ?_
        refine zG.sub [1, 2, 3, 0] rfl ?_
        have e := Option.some.inj h
        exact K14 _ _ _ e.symm
      · have h := zite_n h c
        refine g_iconst (v := (0 : Int32)) dL_law_1075 (by decide) ?_
        refine g_zret dL_law_1076 hxt rfl ?_
        have e := Option.some.inj h
        have e := hl14 _ e.symm
        have e := hl11 _ e.symm
        exact Kret _ _ _ e
    have h := zite_n h c28
    rcases Decidable.em ((v18 &&& (63 : Int32)) = (29 : Int32)) with c | c29
    · have h := zite_p h c
      refine g_tsw (v := (29 : Int32)) (off := 1044) 1077 dL_law_33 c (by decide) (by decide) (by decide) (by decide) ?_
      refine g_aload_n dL_law_1077 1 rfl ?_
      refine g_aload_n dL_law_1078 0 rfl ?_
      refine g_iload_n dL_law_1079 3 rfl ?_
      refine g_iconst (v := (1 : Int32)) dL_law_1080 (by decide) ?_
      refine g_iadd dL_law_1081 ?_
      refine g_sald hX  dL_law_1082 h (fun v248 h => ?_)
      refine g_aload_n dL_law_1083 0 rfl ?_
      refine g_iload_n dL_law_1084 3 rfl ?_
      refine g_iconst (v := (2 : Int32)) dL_law_1085 (by decide) ?_
      refine g_iadd dL_law_1086 ?_
      refine g_sald hX  dL_law_1087 h (fun v249 h => ?_)
      refine g_cVRv (rv := fun x : Int32 => Value.int x) [.int v248, .int v249] (fun x0 e0 => ok_X0_answer (xl X) g16 m17 r3 v248 v249 x0 e0) zc0 (by decide) (lw_V q1248 q1249 q1250 q123 q1251) rfl hy_X0_answer rfl ⟨by decide, by decide⟩ rfl zc_0 (by decide) dL_law_1088 h (fun v250 h => ?_)
      refine g_aload_n dL_law_1091 2 rfl ?_
      refine g_aload_n dL_law_1092 0 rfl ?_
      refine g_iload_n dL_law_1093 3 rfl ?_
      refine g_iconst (v := (1 : Int32)) dL_law_1094 (by decide) ?_
      refine g_iadd dL_law_1095 ?_
      refine g_sald hX  dL_law_1096 h (fun v251 h => ?_)
      refine g_aload_n dL_law_1097 0 rfl ?_
      refine g_iload_n dL_law_1098 3 rfl ?_
      refine g_iconst (v := (2 : Int32)) dL_law_1099 (by decide) ?_
      refine g_iadd dL_law_1100 ?_
      refine g_sald hX  dL_law_1101 h (fun v252 h => ?_)
      refine g_cVRv (rv := fun x : Int32 => Value.int x) [.int v251, .int v252] (fun x0 e0 => ok_X2_answer (xl X) g16 m17 r8 v251 v252 x0 e0) zc2 (by decide) (lw_V q1969 q1970 q1971 q126 q1972) rfl hy_X2_answer rfl ⟨by decide, by decide⟩ rfl (zc_i zc_0) (by decide) dL_law_1102 h (fun v253 h => ?_)
      refine g_icmp_eq 1668 dL_law_1105 (by decide) (fun c => ?_) (fun c => ?_)
      · have h := zite_p h c
        refine g_iinc (v := (6 : Int32)) [(0, va_rf (some b)), (1, va_rf r3), (2, va_rf r8)] dL_law_1668 3 rfl (by decide) (by decide) (zf_r (zf_r (zf_r (zf_i zf_0)))) rfl h (fun v254 h => ?_)
        refine g_goto 18 dL_law_1671 (by decide) ?_
        refine zG.sub [1, 2, 3, 0] rfl ?_
        have e := Option.some.inj h
        exact K14 _ _ _ e.symm
      · have h := zite_n h c
        refine g_iconst (v := (0 : Int32)) dL_law_1108 (by decide) ?_
        refine g_zret dL_law_1109 hxt rfl ?_
        have e := Option.some.inj h
        have e := hl14 _ e.symm
        have e := hl11 _ e.symm
        exact Kret _ _ _ e
    have h := zite_n h c29
    rcases Decidable.em ((v18 &&& (63 : Int32)) = (30 : Int32)) with c | c30
    · have h := zite_p h c
      refine g_tsw (v := (30 : Int32)) (off := 1077) 1110 dL_law_33 c (by decide) (by decide) (by decide) (by decide) ?_
      refine g_aload_n dL_law_1110 1 rfl ?_
      refine g_cVMv (rv := fun x : Int32 => Value.int x) [] (fun x0 m0 e0 => ok_X0_fits (xl X) g16 m17 r3 x0 m0 e0) zc0 (by decide) (lw_V q1261 q1262 q1263 q123 q1264) rfl hy_X0_fits rfl ⟨by decide, by decide⟩ rfl zc_0 (by decide) dL_law_1111 h (fun v255 m256 h => ?_)
      refine g_aload_n dL_law_1114 2 rfl ?_
      refine g_cVMv (rv := fun x : Int32 => Value.int x) [] (fun x0 m0 e0 => ok_X2_fits (xl X) g16 m256 r8 x0 m0 e0) zc2 (by decide) (lw_V q1982 q1983 q1984 q126 q1985) rfl hy_X2_fits rfl ⟨by decide, by decide⟩ rfl (zc_i zc_0) (by decide) dL_law_1115 h (fun v257 m258 h => ?_)
      refine g_icmp_eq 1668 dL_law_1118 (by decide) (fun c => ?_) (fun c => ?_)
      · have h := zite_p h c
        refine g_iinc (v := (6 : Int32)) [(0, va_rf (some b)), (1, va_rf r3), (2, va_rf r8)] dL_law_1668 3 rfl (by decide) (by decide) (zf_r (zf_r (zf_r (zf_i zf_0)))) rfl h (fun v259 h => ?_)
        refine g_goto 18 dL_law_1671 (by decide) ?_
        refine zG.sub [1, 2, 3, 0] rfl ?_
        have e := Option.some.inj h
        exact K14 _ _ _ e.symm
      · have h := zite_n h c
        refine g_iconst (v := (0 : Int32)) dL_law_1121 (by decide) ?_
        refine g_zret dL_law_1122 hxt rfl ?_
        have e := Option.some.inj h
        have e := hl14 _ e.symm
        have e := hl11 _ e.symm
        exact Kret _ _ _ e
    have h := zite_n h c30
    rcases Decidable.em ((v18 &&& (63 : Int32)) = (31 : Int32)) with c | c31
    · have h := zite_p h c
      refine g_tsw (v := (31 : Int32)) (off := 1090) 1123 dL_law_33 c (by decide) (by decide) (by decide) (by decide) ?_
      refine g_aload_n dL_law_1123 1 rfl ?_
      refine g_aload_n dL_law_1124 0 rfl ?_
      refine g_iload_n dL_law_1125 3 rfl ?_
      refine g_iconst (v := (1 : Int32)) dL_law_1126 (by decide) ?_
      refine g_iadd dL_law_1127 ?_
      refine g_sald hX  dL_law_1128 h (fun v260 h => ?_)
      refine g_cVMv (rv := fun x : Int32 => Value.int x) [.int v260] (fun x0 m0 e0 => ok_X0_fit (xl X) g16 m17 r3 v260 x0 m0 e0) zc0 (by decide) (lw_V q1273 q1274 q1275 q123 q1276) rfl hy_X0_fit rfl ⟨by decide, by decide⟩ rfl zc_0 (by decide) dL_law_1129 h (fun v261 m262 h => ?_)
      refine g_aload_n dL_law_1132 2 rfl ?_
      refine g_aload_n dL_law_1133 0 rfl ?_
      refine g_iload_n dL_law_1134 3 rfl ?_
      refine g_iconst (v := (1 : Int32)) dL_law_1135 (by decide) ?_
      refine g_iadd dL_law_1136 ?_
      refine g_sald hX  dL_law_1137 h (fun v263 h => ?_)
      refine g_cVMv (rv := fun x : Int32 => Value.int x) [.int v263] (fun x0 m0 e0 => ok_X2_fit (xl X) g16 m262 r8 v263 x0 m0 e0) zc2 (by decide) (lw_V q1990 q1991 q1992 q126 q1993) rfl hy_X2_fit rfl ⟨by decide, by decide⟩ rfl (zc_i zc_0) (by decide) dL_law_1138 h (fun v264 m265 h => ?_)
      refine g_icmp_eq 1668 dL_law_1141 (by decide) (fun c => ?_) (fun c => ?_)
      · have h := zite_p h c
        refine g_iinc (v := (6 : Int32)) [(0, va_rf (some b)), (1, va_rf r3), (2, va_rf r8)] dL_law_1668 3 rfl (by decide) (by decide) (zf_r (zf_r (zf_r (zf_i zf_0)))) rfl h (fun v266 h => ?_)
        refine g_goto 18 dL_law_1671 (by decide) ?_
        refine zG.sub [1, 2, 3, 0] rfl ?_
        have e := Option.some.inj h
        exact K14 _ _ _ e.symm
      · have h := zite_n h c
        refine g_iconst (v := (0 : Int32)) dL_law_1144 (by decide) ?_
        refine g_zret dL_law_1145 hxt rfl ?_
        have e := Option.some.inj h
        have e := hl14 _ e.symm
        have e := hl11 _ e.symm
        exact Kret _ _ _ e
    have h := zite_n h c31
    rcases Decidable.em ((v18 &&& (63 : Int32)) = (32 : Int32)) with c | c32
    · have h := zite_p h c
      refine g_tsw (v := (32 : Int32)) (off := 1113) 1146 dL_law_33 c (by decide) (by decide) (by decide) (by decide) ?_
      refine g_aload_n dL_law_1146 1 rfl ?_
      refine g_cVMv (rv := fun x : Int32 => Value.int x) [] (fun x0 m0 e0 => ok_X0_ask (xl X) g16 m17 r3 x0 m0 e0) zc0 (by decide) (lw_V q1277 q1278 q1279 q123 q1280) rfl hy_X0_ask rfl ⟨by decide, by decide⟩ rfl zc_0 (by decide) dL_law_1147 h (fun v267 m268 h => ?_)
      refine g_aload_n dL_law_1150 2 rfl ?_
      refine g_cVMv (rv := fun x : Int32 => Value.int x) [] (fun x0 m0 e0 => ok_X2_ask (xl X) g16 m268 r8 x0 m0 e0) zc2 (by decide) (lw_V q1994 q1995 q1996 q126 q1997) rfl hy_X2_ask rfl ⟨by decide, by decide⟩ rfl (zc_i zc_0) (by decide) dL_law_1151 h (fun v269 m270 h => ?_)
      refine g_icmp_eq 1668 dL_law_1154 (by decide) (fun c => ?_) (fun c => ?_)
      · have h := zite_p h c
        refine g_iinc (v := (6 : Int32)) [(0, va_rf (some b)), (1, va_rf r3), (2, va_rf r8)] dL_law_1668 3 rfl (by decide) (by decide) (zf_r (zf_r (zf_r (zf_i zf_0)))) rfl h (fun v271 h => ?_)
        refine g_goto 18 dL_law_1671 (by decide) ?_
        refine zG.sub [1, 2, 3, 0] rfl ?_
        have e := Option.some.inj h
        exact K14 _ _ _ e.symm
      · have h := zite_n h c
        refine g_iconst (v := (0 : Int32)) dL_law_1157 (by decide) ?_
        refine g_zret dL_law_1158 hxt rfl ?_
        have e := Option.some.inj h
        have e := hl14 _ e.symm
        have e := hl11 _ e.symm
        exact Kret _ _ _ e
    have h := zite_n h c32
    rcases Decidable.em ((v18 &&& (63 : Int32)) = (33 : Int32)) with c | c33
    · have h := zite_p h c
      refine g_tsw (v := (33 : Int32)) (off := 1126) 1159 dL_law_33 c (by decide) (by decide) (by decide) (by decide) ?_
      refine g_aload_n dL_law_1159 1 rfl ?_
      refine g_aload_n dL_law_1160 0 rfl ?_
      refine g_iload_n dL_law_1161 3 rfl ?_
      refine g_iconst (v := (1 : Int32)) dL_law_1162 (by decide) ?_
      refine g_iadd dL_law_1163 ?_
      refine g_sald hX  dL_law_1164 h (fun v272 h => ?_)
      refine g_aload_n dL_law_1165 0 rfl ?_
      refine g_iload_n dL_law_1166 3 rfl ?_
      refine g_iconst (v := (2 : Int32)) dL_law_1167 (by decide) ?_
      refine g_iadd dL_law_1168 ?_
      refine g_sald hX  dL_law_1169 h (fun v273 h => ?_)
      refine g_aload_n dL_law_1170 0 rfl ?_
      refine g_iload_n dL_law_1171 3 rfl ?_
      refine g_iconst (v := (3 : Int32)) dL_law_1172 (by decide) ?_
      refine g_iadd dL_law_1173 ?_
      refine g_sald hX  dL_law_1174 h (fun v274 h => ?_)
      refine g_aload_n dL_law_1175 0 rfl ?_
      refine g_iload_n dL_law_1176 3 rfl ?_
      refine g_iconst (v := (4 : Int32)) dL_law_1177 (by decide) ?_
      refine g_iadd dL_law_1178 ?_
      refine g_sald hX  dL_law_1179 h (fun v275 h => ?_)
      refine g_cVMv (rv := fun x : Int32 => Value.int x) [.int v272, .int v273, .int v274, .int v275] (fun x0 m0 e0 => ok_X0_gain (xl X) g16 m17 r3 v272 v273 v274 v275 x0 m0 e0) zc0 (by decide) (lw_V q1288 q1289 q1290 q123 q1291) rfl hy_X0_gain rfl ⟨by decide, by decide⟩ rfl zc_0 (by decide) dL_law_1180 h (fun v276 m277 h => ?_)
      refine g_aload_n dL_law_1183 2 rfl ?_
      refine g_aload_n dL_law_1184 0 rfl ?_
      refine g_iload_n dL_law_1185 3 rfl ?_
      refine g_iconst (v := (1 : Int32)) dL_law_1186 (by decide) ?_
      refine g_iadd dL_law_1187 ?_
      refine g_sald hX  dL_law_1188 h (fun v278 h => ?_)
      refine g_aload_n dL_law_1189 0 rfl ?_
      refine g_iload_n dL_law_1190 3 rfl ?_
      refine g_iconst (v := (2 : Int32)) dL_law_1191 (by decide) ?_
      refine g_iadd dL_law_1192 ?_
      refine g_sald hX  dL_law_1193 h (fun v279 h => ?_)
      refine g_aload_n dL_law_1194 0 rfl ?_
      refine g_iload_n dL_law_1195 3 rfl ?_
      refine g_iconst (v := (3 : Int32)) dL_law_1196 (by decide) ?_
      refine g_iadd dL_law_1197 ?_
      refine g_sald hX  dL_law_1198 h (fun v280 h => ?_)
      refine g_aload_n dL_law_1199 0 rfl ?_
      refine g_iload_n dL_law_1200 3 rfl ?_
      refine g_iconst (v := (4 : Int32)) dL_law_1201 (by decide) ?_
      refine g_iadd dL_law_1202 ?_
      refine g_sald hX  dL_law_1203 h (fun v281 h => ?_)
      refine g_cVMv (rv := fun x : Int32 => Value.int x) [.int v278, .int v279, .int v280, .int v281] (fun x0 m0 e0 => ok_X2_gain (xl X) g16 m277 r8 v278 v279 v280 v281 x0 m0 e0) zc2 (by decide) (lw_V q2006 q2007 q2008 q126 q2009) rfl hy_X2_gain rfl ⟨by decide, by decide⟩ rfl (zc_i zc_0) (by decide) dL_law_1204 h (fun v282 m283 h => ?_)
      refine g_icmp_eq 1668 dL_law_1207 (by decide) (fun c => ?_) (fun c => ?_)
      · have h := zite_p h c
        refine g_iinc (v := (6 : Int32)) [(0, va_rf (some b)), (1, va_rf r3), (2, va_rf r8)] dL_law_1668 3 rfl (by decide) (by decide) (zf_r (zf_r (zf_r (zf_i zf_0)))) rfl h (fun v284 h => ?_)
        refine g_goto 18 dL_law_1671 (by decide) ?_
        refine zG.sub [1, 2, 3, 0] rfl ?_
        have e := Option.some.inj h
        exact K14 _ _ _ e.symm
      · have h := zite_n h c
        refine g_iconst (v := (0 : Int32)) dL_law_1210 (by decide) ?_
        refine g_zret dL_law_1211 hxt rfl ?_
        have e := Option.some.inj h
        have e := hl14 _ e.symm
        have e := hl11 _ e.symm
        exact Kret _ _ _ e
    have h := zite_n h c33
    rcases Decidable.em ((v18 &&& (63 : Int32)) = (34 : Int32)) with c | c34
    · have h := zite_p h c
      refine g_tsw (v := (34 : Int32)) (off := 1179) 1212 dL_law_33 c (by decide) (by decide) (by decide) (by decide) ?_
      refine g_aload_n dL_law_1212 1 rfl ?_
      refine g_cVRv (rv := fun x : Int32 => Value.int x) [] (fun x0 e0 => ok_X0_rests (xl X) g16 m17 r3 x0 e0) zc0 (by decide) (lw_V q1292 q1293 q1294 q123 q1295) rfl hy_X0_rests rfl ⟨by decide, by decide⟩ rfl zc_0 (by decide) dL_law_1213 h (fun v285 h => ?_)
      refine g_aload_n dL_law_1216 2 rfl ?_
      refine g_cVRv (rv := fun x : Int32 => Value.int x) [] (fun x0 e0 => ok_X2_rests (xl X) g16 m17 r8 x0 e0) zc2 (by decide) (lw_V q2010 q2011 q2012 q126 q2013) rfl hy_X2_rests rfl ⟨by decide, by decide⟩ rfl (zc_i zc_0) (by decide) dL_law_1217 h (fun v286 h => ?_)
      refine g_icmp_eq 1668 dL_law_1220 (by decide) (fun c => ?_) (fun c => ?_)
      · have h := zite_p h c
        refine g_iinc (v := (6 : Int32)) [(0, va_rf (some b)), (1, va_rf r3), (2, va_rf r8)] dL_law_1668 3 rfl (by decide) (by decide) (zf_r (zf_r (zf_r (zf_i zf_0)))) rfl h (fun v287 h => ?_)
        refine g_goto 18 dL_law_1671 (by decide) ?_
        refine zG.sub [1, 2, 3, 0] rfl ?_
        have e := Option.some.inj h
        exact K14 _ _ _ e.symm
      · have h := zite_n h c
        refine g_iconst (v := (0 : Int32)) dL_law_1223 (by decide) ?_
        refine g_zret dL_law_1224 hxt rfl ?_
        have e := Option.some.inj h
        have e := hl14 _ e.symm
        have e := hl11 _ e.symm
        exact Kret _ _ _ e
    have h := zite_n h c34
    rcases Decidable.em ((v18 &&& (63 : Int32)) = (35 : Int32)) with c | c35
    · have h := zite_p h c
      refine g_tsw (v := (35 : Int32)) (off := 1192) 1225 dL_law_33 c (by decide) (by decide) (by decide) (by decide) ?_
      refine g_aload_n dL_law_1225 1 rfl ?_
      refine g_aload_n dL_law_1226 0 rfl ?_
      refine g_iload_n dL_law_1227 3 rfl ?_
      refine g_iconst (v := (1 : Int32)) dL_law_1228 (by decide) ?_
      refine g_iadd dL_law_1229 ?_
      refine g_sald hX  dL_law_1230 h (fun v288 h => ?_)
      obtain ⟨o289, h1, h2⟩ := zB_e h
      have K289 : ∀ (v290 : Int32), o289 = v290 → zG X cL_law 4 "QuiverKinLaw" "law" 8192 100000 1239 [(0, va_rf (some b)), (1, va_rf r3), (2, va_rf r8), (3, .int v15)] [.int v290, va_rf r3] g16 m17 := by
        intro v290 e
        rw [e] at h2
        have h := h2
        refine g_aload_n dL_law_1239 0 rfl ?_
        refine g_iload_n dL_law_1240 3 rfl ?_
        refine g_iconst (v := (2 : Int32)) dL_law_1241 (by decide) ?_
        refine g_iadd dL_law_1242 ?_
        refine g_sald hX  dL_law_1243 h (fun v291 h => ?_)
        obtain ⟨o292, h1, h2⟩ := zB_e h
        have K292 : ∀ (v293 : Int32), o292 = v293 → zG X cL_law 4 "QuiverKinLaw" "law" 8192 100000 1252 [(0, va_rf (some b)), (1, va_rf r3), (2, va_rf r8), (3, .int v15)] [.int v293, .int v290, va_rf r3] g16 m17 := by
          intro v293 e
          rw [e] at h2
          have h := h2
          refine g_cVRv (rv := fun x : Int32 => Value.int x) [.int v290, .int v293] (fun x0 e0 => ok_X0_mixed (xl X) g16 m17 r3 v290 v293 x0 e0) zc0 (by decide) (lw_V q1296 q1297 q1298 q123 q1299) rfl hy_X0_mixed rfl ⟨by decide, by decide⟩ rfl zc_0 (by decide) dL_law_1252 h (fun v294 h => ?_)
          refine g_aload_n dL_law_1255 2 rfl ?_
          refine g_aload_n dL_law_1256 0 rfl ?_
          refine g_iload_n dL_law_1257 3 rfl ?_
          refine g_iconst (v := (1 : Int32)) dL_law_1258 (by decide) ?_
          refine g_iadd dL_law_1259 ?_
          refine g_sald hX  dL_law_1260 h (fun v295 h => ?_)
          obtain ⟨o296, h1, h2⟩ := zB_e h
          have K296 : ∀ (v297 : Int32), o296 = v297 → zG X cL_law 4 "QuiverKinLaw" "law" 8192 100000 1269 [(0, va_rf (some b)), (1, va_rf r3), (2, va_rf r8), (3, .int v15)] [.int v297, va_rf r8, .int v294] g16 m17 := by
            intro v297 e
            rw [e] at h2
            have h := h2
            refine g_aload_n dL_law_1269 0 rfl ?_
            refine g_iload_n dL_law_1270 3 rfl ?_
            refine g_iconst (v := (2 : Int32)) dL_law_1271 (by decide) ?_
            refine g_iadd dL_law_1272 ?_
            refine g_sald hX  dL_law_1273 h (fun v298 h => ?_)
            obtain ⟨o299, h1, h2⟩ := zB_e h
            have K299 : ∀ (v300 : Int32), o299 = v300 → zG X cL_law 4 "QuiverKinLaw" "law" 8192 100000 1282 [(0, va_rf (some b)), (1, va_rf r3), (2, va_rf r8), (3, .int v15)] [.int v300, .int v297, va_rf r8, .int v294] g16 m17 := by
              intro v300 e
              rw [e] at h2
              have h := h2
              refine g_cVRv (rv := fun x : Int32 => Value.int x) [.int v297, .int v300] (fun x0 e0 => ok_X2_mixed (xl X) g16 m17 r8 v297 v300 x0 e0) zc2 (by decide) (lw_V q2018 q2019 q2020 q126 q2021) rfl hy_X2_mixed rfl ⟨by decide, by decide⟩ rfl (zc_i zc_0) (by decide) dL_law_1282 h (fun v301 h => ?_)
              refine g_icmp_eq 1668 dL_law_1285 (by decide) (fun c => ?_) (fun c => ?_)
              · have h := zite_p h c
                refine g_iinc (v := (6 : Int32)) [(0, va_rf (some b)), (1, va_rf r3), (2, va_rf r8)] dL_law_1668 3 rfl (by decide) (by decide) (zf_r (zf_r (zf_r (zf_i zf_0)))) rfl h (fun v302 h => ?_)
                refine g_goto 18 dL_law_1671 (by decide) ?_
                refine zG.sub [1, 2, 3, 0] rfl ?_
                have e := Option.some.inj h
                exact K14 _ _ _ e.symm
              · have h := zite_n h c
                refine g_iconst (v := (0 : Int32)) dL_law_1288 (by decide) ?_
                refine g_zret dL_law_1289 hxt rfl ?_
                have e := Option.some.inj h
                have e := hl14 _ e.symm
                have e := hl11 _ e.symm
                exact Kret _ _ _ e
            have h := h1
            refine g_if_eq 1281 dL_law_1274 (by decide) (fun c => ?_) (fun c => ?_)
            · have h := zite_p h c
              refine g_iconst (v := (0 : Int32)) dL_law_1281 (by decide) ?_
              refine zG.sub [0, 1, 2, 3] rfl ?_
              have e := Option.some.inj h
              exact K299 _ e.symm
            · have h := zite_n h c
              refine g_iconst (v := (1 : Int32)) dL_law_1277 (by decide) ?_
              refine g_goto 1282 dL_law_1278 (by decide) ?_
              refine zG.sub [0, 1, 2, 3] rfl ?_
              have e := Option.some.inj h
              exact K299 _ e.symm
          have h := h1
          refine g_if_eq 1268 dL_law_1261 (by decide) (fun c => ?_) (fun c => ?_)
          · have h := zite_p h c
            refine g_iconst (v := (0 : Int32)) dL_law_1268 (by decide) ?_
            refine zG.sub [0, 1, 2, 3] rfl ?_
            have e := Option.some.inj h
            exact K296 _ e.symm
          · have h := zite_n h c
            refine g_iconst (v := (1 : Int32)) dL_law_1264 (by decide) ?_
            refine g_goto 1269 dL_law_1265 (by decide) ?_
            refine zG.sub [0, 1, 2, 3] rfl ?_
            have e := Option.some.inj h
            exact K296 _ e.symm
        have h := h1
        refine g_if_eq 1251 dL_law_1244 (by decide) (fun c => ?_) (fun c => ?_)
        · have h := zite_p h c
          refine g_iconst (v := (0 : Int32)) dL_law_1251 (by decide) ?_
          refine zG.sub [0, 1, 2, 3] rfl ?_
          have e := Option.some.inj h
          exact K292 _ e.symm
        · have h := zite_n h c
          refine g_iconst (v := (1 : Int32)) dL_law_1247 (by decide) ?_
          refine g_goto 1252 dL_law_1248 (by decide) ?_
          refine zG.sub [0, 1, 2, 3] rfl ?_
          have e := Option.some.inj h
          exact K292 _ e.symm
      have h := h1
      refine g_if_eq 1238 dL_law_1231 (by decide) (fun c => ?_) (fun c => ?_)
      · have h := zite_p h c
        refine g_iconst (v := (0 : Int32)) dL_law_1238 (by decide) ?_
        refine zG.sub [0, 1, 2, 3] rfl ?_
        have e := Option.some.inj h
        exact K289 _ e.symm
      · have h := zite_n h c
        refine g_iconst (v := (1 : Int32)) dL_law_1234 (by decide) ?_
        refine g_goto 1239 dL_law_1235 (by decide) ?_
        refine zG.sub [0, 1, 2, 3] rfl ?_
        have e := Option.some.inj h
        exact K289 _ e.symm
    have h := zite_n h c35
    rcases Decidable.em ((v18 &&& (63 : Int32)) = (36 : Int32)) with c | c36
    · have h := zite_p h c
      refine g_tsw (v := (36 : Int32)) (off := 1257) 1290 dL_law_33 c (by decide) (by decide) (by decide) (by decide) ?_
      refine g_aload_n dL_law_1290 1 rfl ?_
      refine g_aload_n dL_law_1291 0 rfl ?_
      refine g_iload_n dL_law_1292 3 rfl ?_
      refine g_iconst (v := (1 : Int32)) dL_law_1293 (by decide) ?_
      refine g_iadd dL_law_1294 ?_
      refine g_sald hX  dL_law_1295 h (fun v303 h => ?_)
      refine g_aload_n dL_law_1296 0 rfl ?_
      refine g_iload_n dL_law_1297 3 rfl ?_
      refine g_iconst (v := (2 : Int32)) dL_law_1298 (by decide) ?_
      refine g_iadd dL_law_1299 ?_
      refine g_sald hX  dL_law_1300 h (fun v304 h => ?_)
      refine g_cVMv (rv := fun x : Int32 => Value.int x) [.int v303, .int v304] (fun x0 m0 e0 => ok_X0_saying (xl X) g16 m17 r3 v303 v304 x0 m0 e0) zc0 (by decide) (lw_V q1309 q1310 q1311 q123 q1312) rfl hy_X0_saying rfl ⟨by decide, by decide⟩ rfl zc_0 (by decide) dL_law_1301 h (fun v305 m306 h => ?_)
      refine g_aload_n dL_law_1304 2 rfl ?_
      refine g_aload_n dL_law_1305 0 rfl ?_
      refine g_iload_n dL_law_1306 3 rfl ?_
      refine g_iconst (v := (1 : Int32)) dL_law_1307 (by decide) ?_
      refine g_iadd dL_law_1308 ?_
      refine g_sald hX  dL_law_1309 h (fun v307 h => ?_)
      refine g_aload_n dL_law_1310 0 rfl ?_
      refine g_iload_n dL_law_1311 3 rfl ?_
      refine g_iconst (v := (2 : Int32)) dL_law_1312 (by decide) ?_
      refine g_iadd dL_law_1313 ?_
      refine g_sald hX  dL_law_1314 h (fun v308 h => ?_)
      refine g_cVMv (rv := fun x : Int32 => Value.int x) [.int v307, .int v308] (fun x0 m0 e0 => ok_X2_saying (xl X) g16 m306 r8 v307 v308 x0 m0 e0) zc2 (by decide) (lw_V q2037 q2038 q2039 q126 q2040) rfl hy_X2_saying rfl ⟨by decide, by decide⟩ rfl (zc_i zc_0) (by decide) dL_law_1315 h (fun v309 m310 h => ?_)
      refine g_icmp_eq 1668 dL_law_1318 (by decide) (fun c => ?_) (fun c => ?_)
      · have h := zite_p h c
        refine g_iinc (v := (6 : Int32)) [(0, va_rf (some b)), (1, va_rf r3), (2, va_rf r8)] dL_law_1668 3 rfl (by decide) (by decide) (zf_r (zf_r (zf_r (zf_i zf_0)))) rfl h (fun v311 h => ?_)
        refine g_goto 18 dL_law_1671 (by decide) ?_
        refine zG.sub [1, 2, 3, 0] rfl ?_
        have e := Option.some.inj h
        exact K14 _ _ _ e.symm
      · have h := zite_n h c
        refine g_iconst (v := (0 : Int32)) dL_law_1321 (by decide) ?_
        refine g_zret dL_law_1322 hxt rfl ?_
        have e := Option.some.inj h
        have e := hl14 _ e.symm
        have e := hl11 _ e.symm
        exact Kret _ _ _ e
    have h := zite_n h c36
    rcases Decidable.em ((v18 &&& (63 : Int32)) = (37 : Int32)) with c | c37
    · have h := zite_p h c
      refine g_tsw (v := (37 : Int32)) (off := 1290) 1323 dL_law_33 c (by decide) (by decide) (by decide) (by decide) ?_
      refine g_aload_n dL_law_1323 1 rfl ?_
      refine g_aload_n dL_law_1324 0 rfl ?_
      refine g_iload_n dL_law_1325 3 rfl ?_
      refine g_iconst (v := (1 : Int32)) dL_law_1326 (by decide) ?_
      refine g_iadd dL_law_1327 ?_
      refine g_sald hX  dL_law_1328 h (fun v312 h => ?_)
      refine g_aload_n dL_law_1329 0 rfl ?_
      refine g_iload_n dL_law_1330 3 rfl ?_
      refine g_iconst (v := (2 : Int32)) dL_law_1331 (by decide) ?_
      refine g_iadd dL_law_1332 ?_
      refine g_sald hX  dL_law_1333 h (fun v313 h => ?_)
      obtain ⟨o314, h1, h2⟩ := zB_e h
      have K314 : ∀ (v315 : Int32), o314 = v315 → zG X cL_law 4 "QuiverKinLaw" "law" 8192 100000 1342 [(0, va_rf (some b)), (1, va_rf r3), (2, va_rf r8), (3, .int v15)] [.int v315, .int v312, va_rf r3] g16 m17 := by
        intro v315 e
        rw [e] at h2
        have h := h2
        refine g_cVRv (rv := fun x : Int32 => Value.int x) [.int v312, .int v315] (fun x0 e0 => ok_X0_least (xl X) g16 m17 r3 v312 v315 x0 e0) zc0 (by decide) (lw_V q1313 q1314 q1315 q123 q1316) rfl hy_X0_least rfl ⟨by decide, by decide⟩ rfl zc_0 (by decide) dL_law_1342 h (fun v316 h => ?_)
        refine g_aload_n dL_law_1345 2 rfl ?_
        refine g_aload_n dL_law_1346 0 rfl ?_
        refine g_iload_n dL_law_1347 3 rfl ?_
        refine g_iconst (v := (1 : Int32)) dL_law_1348 (by decide) ?_
        refine g_iadd dL_law_1349 ?_
        refine g_sald hX  dL_law_1350 h (fun v317 h => ?_)
        refine g_aload_n dL_law_1351 0 rfl ?_
        refine g_iload_n dL_law_1352 3 rfl ?_
        refine g_iconst (v := (2 : Int32)) dL_law_1353 (by decide) ?_
        refine g_iadd dL_law_1354 ?_
        refine g_sald hX  dL_law_1355 h (fun v318 h => ?_)
        obtain ⟨o319, h1, h2⟩ := zB_e h
        have K319 : ∀ (v320 : Int32), o319 = v320 → zG X cL_law 4 "QuiverKinLaw" "law" 8192 100000 1364 [(0, va_rf (some b)), (1, va_rf r3), (2, va_rf r8), (3, .int v15)] [.int v320, .int v317, va_rf r8, .int v316] g16 m17 := by
          intro v320 e
          rw [e] at h2
          have h := h2
          refine g_cVRv (rv := fun x : Int32 => Value.int x) [.int v317, .int v320] (fun x0 e0 => ok_X2_least (xl X) g16 m17 r8 v317 v320 x0 e0) zc2 (by decide) (lw_V q2041 q2042 q2043 q126 q2044) rfl hy_X2_least rfl ⟨by decide, by decide⟩ rfl (zc_i zc_0) (by decide) dL_law_1364 h (fun v321 h => ?_)
          refine g_icmp_eq 1668 dL_law_1367 (by decide) (fun c => ?_) (fun c => ?_)
          · have h := zite_p h c
            refine g_iinc (v := (6 : Int32)) [(0, va_rf (some b)), (1, va_rf r3), (2, va_rf r8)] dL_law_1668 3 rfl (by decide) (by decide) (zf_r (zf_r (zf_r (zf_i zf_0)))) rfl h (fun v322 h => ?_)
            refine g_goto 18 dL_law_1671 (by decide) ?_
            refine zG.sub [1, 2, 3, 0] rfl ?_
            have e := Option.some.inj h
            exact K14 _ _ _ e.symm
          · have h := zite_n h c
            refine g_iconst (v := (0 : Int32)) dL_law_1370 (by decide) ?_
            refine g_zret dL_law_1371 hxt rfl ?_
            have e := Option.some.inj h
            have e := hl14 _ e.symm
            have e := hl11 _ e.symm
            exact Kret _ _ _ e
        have h := h1
        refine g_if_eq 1363 dL_law_1356 (by decide) (fun c => ?_) (fun c => ?_)
        · have h := zite_p h c
          refine g_iconst (v := (0 : Int32)) dL_law_1363 (by decide) ?_
          refine zG.sub [0, 1, 2, 3] rfl ?_
          have e := Option.some.inj h
          exact K319 _ e.symm
        · have h := zite_n h c
          refine g_iconst (v := (1 : Int32)) dL_law_1359 (by decide) ?_
          refine g_goto 1364 dL_law_1360 (by decide) ?_
          refine zG.sub [0, 1, 2, 3] rfl ?_
          have e := Option.some.inj h
          exact K319 _ e.symm
      have h := h1
      refine g_if_eq 1341 dL_law_1334 (by decide) (fun c => ?_) (fun c => ?_)
      · have h := zite_p h c
        refine g_iconst (v := (0 : Int32)) dL_law_1341 (by decide) ?_
        refine zG.sub [0, 1, 2, 3] rfl ?_
        have e := Option.some.inj h
        exact K314 _ e.symm
      · have h := zite_n h c
        refine g_iconst (v := (1 : Int32)) dL_law_1337 (by decide) ?_
        refine g_goto 1342 dL_law_1338 (by decide) ?_
        refine zG.sub [0, 1, 2, 3] rfl ?_
        have e := Option.some.inj h
        exact K314 _ e.symm
    have h := zite_n h c37
    rcases Decidable.em ((v18 &&& (63 : Int32)) = (38 : Int32)) with c | c38
    · have h := zite_p h c
      refine g_tsw (v := (38 : Int32)) (off := 1339) 1372 dL_law_33 c (by decide) (by decide) (by decide) (by decide) ?_
      refine g_aload_n dL_law_1372 1 rfl ?_
      refine g_aload_n dL_law_1373 0 rfl ?_
      refine g_iload_n dL_law_1374 3 rfl ?_
      refine g_iconst (v := (1 : Int32)) dL_law_1375 (by decide) ?_
      refine g_iadd dL_law_1376 ?_
      refine g_sald hX  dL_law_1377 h (fun v323 h => ?_)
      refine g_aload_n dL_law_1378 0 rfl ?_
      refine g_iload_n dL_law_1379 3 rfl ?_
      refine g_iconst (v := (2 : Int32)) dL_law_1380 (by decide) ?_
      refine g_iadd dL_law_1381 ?_
      refine g_sald hX  dL_law_1382 h (fun v324 h => ?_)
      refine g_aload_n dL_law_1383 0 rfl ?_
      refine g_iload_n dL_law_1384 3 rfl ?_
      refine g_iconst (v := (3 : Int32)) dL_law_1385 (by decide) ?_
      refine g_iadd dL_law_1386 ?_
      refine g_sald hX  dL_law_1387 h (fun v325 h => ?_)
      refine g_aload_n dL_law_1388 0 rfl ?_
      refine g_iload_n dL_law_1389 3 rfl ?_
      refine g_iconst (v := (4 : Int32)) dL_law_1390 (by decide) ?_
      refine g_iadd dL_law_1391 ?_
      refine g_sald hX  dL_law_1392 h (fun v326 h => ?_)
      obtain ⟨o327, h1, h2⟩ := zB_e h
      have K327 : ∀ (v328 : Int32), o327 = v328 → zG X cL_law 4 "QuiverKinLaw" "law" 8192 100000 1401 [(0, va_rf (some b)), (1, va_rf r3), (2, va_rf r8), (3, .int v15)] [.int v328, .int v325, .int v324, .int v323, va_rf r3] g16 m17 := by
        intro v328 e
        rw [e] at h2
        have h := h2
        refine g_cVRv (rv := fun x : Int64 => Value.long x) [.int v323, .int v324, .int v325, .int v328] (fun x0 e0 => ok_X0_near (xl X) g16 m17 r3 v323 v324 v325 v328 x0 e0) zc0 (by decide) (lw_V q1331 q1332 q1333 q123 q1334) rfl hy_X0_near rfl ⟨by decide, by decide⟩ rfl zc_0 (by decide) dL_law_1401 h (fun w329 h => ?_)
        refine g_aload_n dL_law_1404 2 rfl ?_
        refine g_aload_n dL_law_1405 0 rfl ?_
        refine g_iload_n dL_law_1406 3 rfl ?_
        refine g_iconst (v := (1 : Int32)) dL_law_1407 (by decide) ?_
        refine g_iadd dL_law_1408 ?_
        refine g_sald hX  dL_law_1409 h (fun v330 h => ?_)
        refine g_aload_n dL_law_1410 0 rfl ?_
        refine g_iload_n dL_law_1411 3 rfl ?_
        refine g_iconst (v := (2 : Int32)) dL_law_1412 (by decide) ?_
        refine g_iadd dL_law_1413 ?_
        refine g_sald hX  dL_law_1414 h (fun v331 h => ?_)
        refine g_aload_n dL_law_1415 0 rfl ?_
        refine g_iload_n dL_law_1416 3 rfl ?_
        refine g_iconst (v := (3 : Int32)) dL_law_1417 (by decide) ?_
        refine g_iadd dL_law_1418 ?_
        refine g_sald hX  dL_law_1419 h (fun v332 h => ?_)
        refine g_aload_n dL_law_1420 0 rfl ?_
        refine g_iload_n dL_law_1421 3 rfl ?_
        refine g_iconst (v := (4 : Int32)) dL_law_1422 (by decide) ?_
        refine g_iadd dL_law_1423 ?_
        refine g_sald hX  dL_law_1424 h (fun v333 h => ?_)
        obtain ⟨o334, h1, h2⟩ := zB_e h
        have K334 : ∀ (v335 : Int32), o334 = v335 → zG X cL_law 4 "QuiverKinLaw" "law" 8192 100000 1433 [(0, va_rf (some b)), (1, va_rf r3), (2, va_rf r8), (3, .int v15)] [.int v335, .int v332, .int v331, .int v330, va_rf r8, .long w329] g16 m17 := by
          intro v335 e
          rw [e] at h2
          have h := h2
          refine g_cVRv (rv := fun x : Int64 => Value.long x) [.int v330, .int v331, .int v332, .int v335] (fun x0 e0 => ok_X2_near (xl X) g16 m17 r8 v330 v331 v332 v335 x0 e0) zc2 (by decide) (lw_V q2052 q2053 q2054 q126 q2055) rfl hy_X2_near rfl ⟨by decide, by decide⟩ rfl (zc_l zc_0) (by decide) dL_law_1433 h (fun w336 h => ?_)
          refine g_lcmp_eq 1668 dL_law_1436 dL_law_1437 (by decide) (fun c => ?_) (fun c => ?_)
          · have h := zite_p h c
            refine g_iinc (v := (6 : Int32)) [(0, va_rf (some b)), (1, va_rf r3), (2, va_rf r8)] dL_law_1668 3 rfl (by decide) (by decide) (zf_r (zf_r (zf_r (zf_i zf_0)))) rfl h (fun v337 h => ?_)
            refine g_goto 18 dL_law_1671 (by decide) ?_
            refine zG.sub [1, 2, 3, 0] rfl ?_
            have e := Option.some.inj h
            exact K14 _ _ _ e.symm
          · have h := zite_n h c
            refine g_iconst (v := (0 : Int32)) dL_law_1440 (by decide) ?_
            refine g_zret dL_law_1441 hxt rfl ?_
            have e := Option.some.inj h
            have e := hl14 _ e.symm
            have e := hl11 _ e.symm
            exact Kret _ _ _ e
        have h := h1
        refine g_if_eq 1432 dL_law_1425 (by decide) (fun c => ?_) (fun c => ?_)
        · have h := zite_p h c
          refine g_iconst (v := (0 : Int32)) dL_law_1432 (by decide) ?_
          refine zG.sub [0, 1, 2, 3] rfl ?_
          have e := Option.some.inj h
          exact K334 _ e.symm
        · have h := zite_n h c
          refine g_iconst (v := (1 : Int32)) dL_law_1428 (by decide) ?_
          refine g_goto 1433 dL_law_1429 (by decide) ?_
          refine zG.sub [0, 1, 2, 3] rfl ?_
          have e := Option.some.inj h
          exact K334 _ e.symm
      have h := h1
      refine g_if_eq 1400 dL_law_1393 (by decide) (fun c => ?_) (fun c => ?_)
      · have h := zite_p h c
        refine g_iconst (v := (0 : Int32)) dL_law_1400 (by decide) ?_
        refine zG.sub [0, 1, 2, 3] rfl ?_
        have e := Option.some.inj h
        exact K327 _ e.symm
      · have h := zite_n h c
        refine g_iconst (v := (1 : Int32)) dL_law_1396 (by decide) ?_
        refine g_goto 1401 dL_law_1397 (by decide) ?_
        refine zG.sub [0, 1, 2, 3] rfl ?_
        have e := Option.some.inj h
        exact K327 _ e.symm
    have h := zite_n h c38
    rcases Decidable.em ((v18 &&& (63 : Int32)) = (39 : Int32)) with c | c39
    · have h := zite_p h c
      refine g_tsw (v := (39 : Int32)) (off := 1409) 1442 dL_law_33 c (by decide) (by decide) (by decide) (by decide) ?_
      refine g_aload_n dL_law_1442 1 rfl ?_
      refine g_aload_n dL_law_1443 0 rfl ?_
      refine g_iload_n dL_law_1444 3 rfl ?_
      refine g_iconst (v := (1 : Int32)) dL_law_1445 (by decide) ?_
      refine g_iadd dL_law_1446 ?_
      refine g_sald hX  dL_law_1447 h (fun v338 h => ?_)
      refine g_aload_n dL_law_1448 0 rfl ?_
      refine g_iload_n dL_law_1449 3 rfl ?_
      refine g_iconst (v := (2 : Int32)) dL_law_1450 (by decide) ?_
      refine g_iadd dL_law_1451 ?_
      refine g_sald hX  dL_law_1452 h (fun v339 h => ?_)
      refine g_cVMv (rv := fun x : Int32 => Value.int x) [.int v338, .int v339] (fun x0 m0 e0 => ok_X0_game (xl X) g16 m17 r3 v338 v339 x0 m0 e0) zc0 (by decide) (lw_V q1336 q1337 q1338 q123 q1339) rfl hy_X0_game rfl ⟨by decide, by decide⟩ rfl zc_0 (by decide) dL_law_1453 h (fun v340 m341 h => ?_)
      refine g_aload_n dL_law_1456 2 rfl ?_
      refine g_aload_n dL_law_1457 0 rfl ?_
      refine g_iload_n dL_law_1458 3 rfl ?_
      refine g_iconst (v := (1 : Int32)) dL_law_1459 (by decide) ?_
      refine g_iadd dL_law_1460 ?_
      refine g_sald hX  dL_law_1461 h (fun v342 h => ?_)
      refine g_aload_n dL_law_1462 0 rfl ?_
      refine g_iload_n dL_law_1463 3 rfl ?_
      refine g_iconst (v := (2 : Int32)) dL_law_1464 (by decide) ?_
      refine g_iadd dL_law_1465 ?_
      refine g_sald hX  dL_law_1466 h (fun v343 h => ?_)
      refine g_cVMv (rv := fun x : Int32 => Value.int x) [.int v342, .int v343] (fun x0 m0 e0 => ok_X2_game (xl X) g16 m341 r8 v342 v343 x0 m0 e0) zc2 (by decide) (lw_V q2063 q2064 q2065 q126 q2066) rfl hy_X2_game rfl ⟨by decide, by decide⟩ rfl (zc_i zc_0) (by decide) dL_law_1467 h (fun v344 m345 h => ?_)
      refine g_icmp_eq 1668 dL_law_1470 (by decide) (fun c => ?_) (fun c => ?_)
      · have h := zite_p h c
        refine g_iinc (v := (6 : Int32)) [(0, va_rf (some b)), (1, va_rf r3), (2, va_rf r8)] dL_law_1668 3 rfl (by decide) (by decide) (zf_r (zf_r (zf_r (zf_i zf_0)))) rfl h (fun v346 h => ?_)
        refine g_goto 18 dL_law_1671 (by decide) ?_
        refine zG.sub [1, 2, 3, 0] rfl ?_
        have e := Option.some.inj h
        exact K14 _ _ _ e.symm
      · have h := zite_n h c
        refine g_iconst (v := (0 : Int32)) dL_law_1473 (by decide) ?_
        refine g_zret dL_law_1474 hxt rfl ?_
        have e := Option.some.inj h
        have e := hl14 _ e.symm
        have e := hl11 _ e.symm
        exact Kret _ _ _ e
    have h := zite_n h c39
    rcases Decidable.em ((v18 &&& (63 : Int32)) = (40 : Int32)) with c | c40
    · have h := zite_p h c
      refine g_tsw (v := (40 : Int32)) (off := 1442) 1475 dL_law_33 c (by decide) (by decide) (by decide) (by decide) ?_
      refine g_aload_n dL_law_1475 1 rfl ?_
      refine g_aload_n dL_law_1476 0 rfl ?_
      refine g_iload_n dL_law_1477 3 rfl ?_
      refine g_iconst (v := (1 : Int32)) dL_law_1478 (by decide) ?_
      refine g_iadd dL_law_1479 ?_
      refine g_sald hX  dL_law_1480 h (fun v347 h => ?_)
      refine g_aload_n dL_law_1481 0 rfl ?_
      refine g_iload_n dL_law_1482 3 rfl ?_
      refine g_iconst (v := (2 : Int32)) dL_law_1483 (by decide) ?_
      refine g_iadd dL_law_1484 ?_
      refine g_sald hX  dL_law_1485 h (fun v348 h => ?_)
      obtain ⟨o349, h1, h2⟩ := zB_e h
      have K349 : ∀ (v350 : Int32), o349 = v350 → zG X cL_law 4 "QuiverKinLaw" "law" 8192 100000 1494 [(0, va_rf (some b)), (1, va_rf r3), (2, va_rf r8), (3, .int v15)] [.int v350, .int v347, va_rf r3] g16 m17 := by
        intro v350 e
        rw [e] at h2
        have h := h2
        refine g_cVMv (rv := fun x : Int32 => Value.int x) [.int v347, .int v350] (fun x0 m0 e0 => ok_X0_bite (xl X) g16 m17 r3 v347 v350 x0 m0 e0) zc0 (by decide) (lw_V q1357 q1358 q1359 q123 q1360) rfl hy_X0_bite rfl ⟨by decide, by decide⟩ rfl zc_0 (by decide) dL_law_1494 h (fun v351 m352 h => ?_)
        refine g_aload_n dL_law_1497 2 rfl ?_
        refine g_aload_n dL_law_1498 0 rfl ?_
        refine g_iload_n dL_law_1499 3 rfl ?_
        refine g_iconst (v := (1 : Int32)) dL_law_1500 (by decide) ?_
        refine g_iadd dL_law_1501 ?_
        refine g_sald hX  dL_law_1502 h (fun v353 h => ?_)
        refine g_aload_n dL_law_1503 0 rfl ?_
        refine g_iload_n dL_law_1504 3 rfl ?_
        refine g_iconst (v := (2 : Int32)) dL_law_1505 (by decide) ?_
        refine g_iadd dL_law_1506 ?_
        refine g_sald hX  dL_law_1507 h (fun v354 h => ?_)
        obtain ⟨o355, h1, h2⟩ := zB_e h
        have K355 : ∀ (v356 : Int32), o355 = v356 → zG X cL_law 4 "QuiverKinLaw" "law" 8192 100000 1516 [(0, va_rf (some b)), (1, va_rf r3), (2, va_rf r8), (3, .int v15)] [.int v356, .int v353, va_rf r8, .int v351] g16 m352 := by
          intro v356 e
          rw [e] at h2
          have h := h2
          refine g_cVMv (rv := fun x : Int32 => Value.int x) [.int v353, .int v356] (fun x0 m0 e0 => ok_X2_bite (xl X) g16 m352 r8 v353 v356 x0 m0 e0) zc2 (by decide) (lw_V q2084 q2085 q2086 q126 q2087) rfl hy_X2_bite rfl ⟨by decide, by decide⟩ rfl (zc_i zc_0) (by decide) dL_law_1516 h (fun v357 m358 h => ?_)
          refine g_icmp_eq 1668 dL_law_1519 (by decide) (fun c => ?_) (fun c => ?_)
          · have h := zite_p h c
            refine g_iinc (v := (6 : Int32)) [(0, va_rf (some b)), (1, va_rf r3), (2, va_rf r8)] dL_law_1668 3 rfl (by decide) (by decide) (zf_r (zf_r (zf_r (zf_i zf_0)))) rfl h (fun v359 h => ?_)
            refine g_goto 18 dL_law_1671 (by decide) ?_
            refine zG.sub [1, 2, 3, 0] rfl ?_
            have e := Option.some.inj h
            exact K14 _ _ _ e.symm
          · have h := zite_n h c
            refine g_iconst (v := (0 : Int32)) dL_law_1522 (by decide) ?_
            refine g_zret dL_law_1523 hxt rfl ?_
            have e := Option.some.inj h
            have e := hl14 _ e.symm
            have e := hl11 _ e.symm
            exact Kret _ _ _ e
        have h := h1
        refine g_if_eq 1515 dL_law_1508 (by decide) (fun c => ?_) (fun c => ?_)
        · have h := zite_p h c
          refine g_iconst (v := (0 : Int32)) dL_law_1515 (by decide) ?_
          refine zG.sub [0, 1, 2, 3] rfl ?_
          have e := Option.some.inj h
          exact K355 _ e.symm
        · have h := zite_n h c
          refine g_iconst (v := (1 : Int32)) dL_law_1511 (by decide) ?_
          refine g_goto 1516 dL_law_1512 (by decide) ?_
          refine zG.sub [0, 1, 2, 3] rfl ?_
          have e := Option.some.inj h
          exact K355 _ e.symm
      have h := h1
      refine g_if_eq 1493 dL_law_1486 (by decide) (fun c => ?_) (fun c => ?_)
      · have h := zite_p h c
        refine g_iconst (v := (0 : Int32)) dL_law_1493 (by decide) ?_
        refine zG.sub [0, 1, 2, 3] rfl ?_
        have e := Option.some.inj h
        exact K349 _ e.symm
      · have h := zite_n h c
        refine g_iconst (v := (1 : Int32)) dL_law_1489 (by decide) ?_
        refine g_goto 1494 dL_law_1490 (by decide) ?_
        refine zG.sub [0, 1, 2, 3] rfl ?_
        have e := Option.some.inj h
        exact K349 _ e.symm
    have h := zite_n h c40
    rcases Decidable.em ((v18 &&& (63 : Int32)) = (41 : Int32)) with c | c41
    · have h := zite_p h c
      refine g_tsw (v := (41 : Int32)) (off := 1491) 1524 dL_law_33 c (by decide) (by decide) (by decide) (by decide) ?_
      refine g_aload_n dL_law_1524 1 rfl ?_
      refine g_aload_n dL_law_1525 0 rfl ?_
      refine g_iload_n dL_law_1526 3 rfl ?_
      refine g_iconst (v := (1 : Int32)) dL_law_1527 (by decide) ?_
      refine g_iadd dL_law_1528 ?_
      refine g_sald hX  dL_law_1529 h (fun v360 h => ?_)
      refine g_aload_n dL_law_1530 0 rfl ?_
      refine g_iload_n dL_law_1531 3 rfl ?_
      refine g_iconst (v := (2 : Int32)) dL_law_1532 (by decide) ?_
      refine g_iadd dL_law_1533 ?_
      refine g_sald hX  dL_law_1534 h (fun v361 h => ?_)
      refine g_cVMv (rv := fun x : Int32 => Value.int x) [.int v360, .int v361] (fun x0 m0 e0 => ok_X0_told (xl X) g16 m17 r3 v360 v361 x0 m0 e0) zc0 (by decide) (lw_V q1365 q1366 q1367 q123 q1368) rfl hy_X0_told rfl ⟨by decide, by decide⟩ rfl zc_0 (by decide) dL_law_1535 h (fun v362 m363 h => ?_)
      refine g_aload_n dL_law_1538 2 rfl ?_
      refine g_aload_n dL_law_1539 0 rfl ?_
      refine g_iload_n dL_law_1540 3 rfl ?_
      refine g_iconst (v := (1 : Int32)) dL_law_1541 (by decide) ?_
      refine g_iadd dL_law_1542 ?_
      refine g_sald hX  dL_law_1543 h (fun v364 h => ?_)
      refine g_aload_n dL_law_1544 0 rfl ?_
      refine g_iload_n dL_law_1545 3 rfl ?_
      refine g_iconst (v := (2 : Int32)) dL_law_1546 (by decide) ?_
      refine g_iadd dL_law_1547 ?_
      refine g_sald hX  dL_law_1548 h (fun v365 h => ?_)
      refine g_cVMv (rv := fun x : Int32 => Value.int x) [.int v364, .int v365] (fun x0 m0 e0 => ok_X2_told (xl X) g16 m363 r8 v364 v365 x0 m0 e0) zc2 (by decide) (lw_V q2089 q2090 q2091 q126 q2092) rfl hy_X2_told rfl ⟨by decide, by decide⟩ rfl (zc_i zc_0) (by decide) dL_law_1549 h (fun v366 m367 h => ?_)
      refine g_icmp_eq 1668 dL_law_1552 (by decide) (fun c => ?_) (fun c => ?_)
      · have h := zite_p h c
        refine g_iinc (v := (6 : Int32)) [(0, va_rf (some b)), (1, va_rf r3), (2, va_rf r8)] dL_law_1668 3 rfl (by decide) (by decide) (zf_r (zf_r (zf_r (zf_i zf_0)))) rfl h (fun v368 h => ?_)
        refine g_goto 18 dL_law_1671 (by decide) ?_
        refine zG.sub [1, 2, 3, 0] rfl ?_
        have e := Option.some.inj h
        exact K14 _ _ _ e.symm
      · have h := zite_n h c
        refine g_iconst (v := (0 : Int32)) dL_law_1555 (by decide) ?_
        refine g_zret dL_law_1556 hxt rfl ?_
        have e := Option.some.inj h
        have e := hl14 _ e.symm
        have e := hl11 _ e.symm
        exact Kret _ _ _ e
    have h := zite_n h c41
    rcases Decidable.em ((v18 &&& (63 : Int32)) = (42 : Int32)) with c | c42
    · have h := zite_p h c
      refine g_tsw (v := (42 : Int32)) (off := 1524) 1557 dL_law_33 c (by decide) (by decide) (by decide) (by decide) ?_
      refine g_aload_n dL_law_1557 1 rfl ?_
      refine g_cVMv (rv := fun x : Int32 => Value.int x) [] (fun x0 m0 e0 => ok_X0_whose (xl X) g16 m17 r3 x0 m0 e0) zc0 (by decide) (lw_V q1369 q1370 q1371 q123 q1372) rfl hy_X0_whose rfl ⟨by decide, by decide⟩ rfl zc_0 (by decide) dL_law_1558 h (fun v369 m370 h => ?_)
      refine g_aload_n dL_law_1561 2 rfl ?_
      refine g_cVMv (rv := fun x : Int32 => Value.int x) [] (fun x0 m0 e0 => ok_X2_whose (xl X) g16 m370 r8 x0 m0 e0) zc2 (by decide) (lw_V q2093 q2094 q2095 q126 q2096) rfl hy_X2_whose rfl ⟨by decide, by decide⟩ rfl (zc_i zc_0) (by decide) dL_law_1562 h (fun v371 m372 h => ?_)
      refine g_icmp_eq 1668 dL_law_1565 (by decide) (fun c => ?_) (fun c => ?_)
      · have h := zite_p h c
        refine g_iinc (v := (6 : Int32)) [(0, va_rf (some b)), (1, va_rf r3), (2, va_rf r8)] dL_law_1668 3 rfl (by decide) (by decide) (zf_r (zf_r (zf_r (zf_i zf_0)))) rfl h (fun v373 h => ?_)
        refine g_goto 18 dL_law_1671 (by decide) ?_
        refine zG.sub [1, 2, 3, 0] rfl ?_
        have e := Option.some.inj h
        exact K14 _ _ _ e.symm
      · have h := zite_n h c
        refine g_iconst (v := (0 : Int32)) dL_law_1568 (by decide) ?_
        refine g_zret dL_law_1569 hxt rfl ?_
        have e := Option.some.inj h
        have e := hl14 _ e.symm
        have e := hl11 _ e.symm
        exact Kret _ _ _ e
    have h := zite_n h c42
    rcases Decidable.em ((v18 &&& (63 : Int32)) = (43 : Int32)) with c | c43
    · have h := zite_p h c
      refine g_tsw (v := (43 : Int32)) (off := 1537) 1570 dL_law_33 c (by decide) (by decide) (by decide) (by decide) ?_
      refine g_aload_n dL_law_1570 1 rfl ?_
      refine g_cVRv (rv := fun x : Int32 => Value.int x) [] (fun x0 e0 => ok_X0_fullest (xl X) g16 m17 r3 x0 e0) zc0 (by decide) (lw_V q1377 q1378 q1379 q123 q1380) rfl hy_X0_fullest rfl ⟨by decide, by decide⟩ rfl zc_0 (by decide) dL_law_1571 h (fun v374 h => ?_)
      refine g_aload_n dL_law_1574 2 rfl ?_
      refine g_cVRv (rv := fun x : Int32 => Value.int x) [] (fun x0 e0 => ok_X2_fullest (xl X) g16 m17 r8 x0 e0) zc2 (by decide) (lw_V q1878 q1879 q1880 q126 q1881) rfl hy_X2_fullest rfl ⟨by decide, by decide⟩ rfl (zc_i zc_0) (by decide) dL_law_1575 h (fun v375 h => ?_)
      refine g_icmp_eq 1668 dL_law_1578 (by decide) (fun c => ?_) (fun c => ?_)
      · have h := zite_p h c
        refine g_iinc (v := (6 : Int32)) [(0, va_rf (some b)), (1, va_rf r3), (2, va_rf r8)] dL_law_1668 3 rfl (by decide) (by decide) (zf_r (zf_r (zf_r (zf_i zf_0)))) rfl h (fun v376 h => ?_)
        refine g_goto 18 dL_law_1671 (by decide) ?_
        refine zG.sub [1, 2, 3, 0] rfl ?_
        have e := Option.some.inj h
        exact K14 _ _ _ e.symm
      · have h := zite_n h c
        refine g_iconst (v := (0 : Int32)) dL_law_1581 (by decide) ?_
        refine g_zret dL_law_1582 hxt rfl ?_
        have e := Option.some.inj h
        have e := hl14 _ e.symm
        have e := hl11 _ e.symm
        exact Kret _ _ _ e
    have h := zite_n h c43
    rcases Decidable.em ((v18 &&& (63 : Int32)) = (44 : Int32)) with c | c44
    · have h := zite_p h c
      refine g_tsw (v := (44 : Int32)) (off := 1550) 1583 dL_law_33 c (by decide) (by decide) (by decide) (by decide) ?_
      refine g_aload_n dL_law_1583 1 rfl ?_
      refine g_cVRv (rv := fun x : Int32 => Value.int x) [] (fun x0 e0 => ok_X0_calm (xl X) g16 m17 r3 x0 e0) zc0 (by decide) (lw_V q1381 q1382 q1383 q123 q1384) rfl hy_X0_calm rfl ⟨by decide, by decide⟩ rfl zc_0 (by decide) dL_law_1584 h (fun v377 h => ?_)
      refine g_aload_n dL_law_1587 2 rfl ?_
      refine g_cVRv (rv := fun x : Int32 => Value.int x) [] (fun x0 e0 => ok_X2_calm (xl X) g16 m17 r8 x0 e0) zc2 (by decide) (lw_V q1882 q1883 q1884 q126 q1885) rfl hy_X2_calm rfl ⟨by decide, by decide⟩ rfl (zc_i zc_0) (by decide) dL_law_1588 h (fun v378 h => ?_)
      refine g_icmp_eq 1668 dL_law_1591 (by decide) (fun c => ?_) (fun c => ?_)
      · have h := zite_p h c
        refine g_iinc (v := (6 : Int32)) [(0, va_rf (some b)), (1, va_rf r3), (2, va_rf r8)] dL_law_1668 3 rfl (by decide) (by decide) (zf_r (zf_r (zf_r (zf_i zf_0)))) rfl h (fun v379 h => ?_)
        refine g_goto 18 dL_law_1671 (by decide) ?_
        refine zG.sub [1, 2, 3, 0] rfl ?_
        have e := Option.some.inj h
        exact K14 _ _ _ e.symm
      · have h := zite_n h c
        refine g_iconst (v := (0 : Int32)) dL_law_1594 (by decide) ?_
        refine g_zret dL_law_1595 hxt rfl ?_
        have e := Option.some.inj h
        have e := hl14 _ e.symm
        have e := hl11 _ e.symm
        exact Kret _ _ _ e
    have h := zite_n h c44
    rcases Decidable.em ((v18 &&& (63 : Int32)) = (45 : Int32)) with c | c45
    · have h := zite_p h c
      refine g_tsw (v := (45 : Int32)) (off := 1563) 1596 dL_law_33 c (by decide) (by decide) (by decide) (by decide) ?_
      refine g_aload_n dL_law_1596 1 rfl ?_
      refine g_aload_n dL_law_1597 0 rfl ?_
      refine g_iload_n dL_law_1598 3 rfl ?_
      refine g_iconst (v := (1 : Int32)) dL_law_1599 (by decide) ?_
      refine g_iadd dL_law_1600 ?_
      refine g_sald hX  dL_law_1601 h (fun v380 h => ?_)
      refine g_cVRv (rv := fun x : Int32 => Value.int x) [.int v380] (fun x0 e0 => ok_X0_ledger (xl X) g16 m17 r3 v380 x0 e0) zc0 (by decide) (lw_V q1385 q1386 q1387 q123 q1388) rfl hy_X0_ledger rfl ⟨by decide, by decide⟩ rfl zc_0 (by decide) dL_law_1602 h (fun v381 h => ?_)
      refine g_aload_n dL_law_1605 2 rfl ?_
      refine g_aload_n dL_law_1606 0 rfl ?_
      refine g_iload_n dL_law_1607 3 rfl ?_
      refine g_iconst (v := (1 : Int32)) dL_law_1608 (by decide) ?_
      refine g_iadd dL_law_1609 ?_
      refine g_sald hX  dL_law_1610 h (fun v382 h => ?_)
      refine g_cVRv (rv := fun x : Int32 => Value.int x) [.int v382] (fun x0 e0 => ok_X2_ledger (xl X) g16 m17 r8 v382 x0 e0) zc2 (by decide) (lw_V q1874 q1875 q1876 q126 q1877) rfl hy_X2_ledger rfl ⟨by decide, by decide⟩ rfl (zc_i zc_0) (by decide) dL_law_1611 h (fun v383 h => ?_)
      refine g_icmp_eq 1668 dL_law_1614 (by decide) (fun c => ?_) (fun c => ?_)
      · have h := zite_p h c
        refine g_iinc (v := (6 : Int32)) [(0, va_rf (some b)), (1, va_rf r3), (2, va_rf r8)] dL_law_1668 3 rfl (by decide) (by decide) (zf_r (zf_r (zf_r (zf_i zf_0)))) rfl h (fun v384 h => ?_)
        refine g_goto 18 dL_law_1671 (by decide) ?_
        refine zG.sub [1, 2, 3, 0] rfl ?_
        have e := Option.some.inj h
        exact K14 _ _ _ e.symm
      · have h := zite_n h c
        refine g_iconst (v := (0 : Int32)) dL_law_1617 (by decide) ?_
        refine g_zret dL_law_1618 hxt rfl ?_
        have e := Option.some.inj h
        have e := hl14 _ e.symm
        have e := hl11 _ e.symm
        exact Kret _ _ _ e
    have h := zite_n h c45
    rcases Decidable.em ((v18 &&& (63 : Int32)) = (46 : Int32)) with c | c46
    · have h := zite_p h c
      refine g_tsw (v := (46 : Int32)) (off := 1586) 1619 dL_law_33 c (by decide) (by decide) (by decide) (by decide) ?_
      refine g_aload_n dL_law_1619 1 rfl ?_
      refine g_cVMv (rv := fun x : Int32 => Value.int x) [] (fun x0 m0 e0 => ok_X0_image (xl X) g16 m17 r3 x0 m0 e0) zc0 (by decide) (lw_V q1389 q1390 q1391 q123 q1392) rfl hy_X0_image rfl ⟨by decide, by decide⟩ rfl zc_0 (by decide) dL_law_1620 h (fun v385 m386 h => ?_)
      refine g_aload_n dL_law_1623 2 rfl ?_
      refine g_cVMv (rv := fun x : Int32 => Value.int x) [] (fun x0 m0 e0 => ok_X2_image (xl X) g16 m386 r8 x0 m0 e0) zc2 (by decide) (lw_V q2097 q2098 q2099 q126 q2100) rfl hy_X2_image rfl ⟨by decide, by decide⟩ rfl (zc_i zc_0) (by decide) dL_law_1624 h (fun v387 m388 h => ?_)
      refine g_icmp_eq 1668 dL_law_1627 (by decide) (fun c => ?_) (fun c => ?_)
      · have h := zite_p h c
        refine g_iinc (v := (6 : Int32)) [(0, va_rf (some b)), (1, va_rf r3), (2, va_rf r8)] dL_law_1668 3 rfl (by decide) (by decide) (zf_r (zf_r (zf_r (zf_i zf_0)))) rfl h (fun v389 h => ?_)
        refine g_goto 18 dL_law_1671 (by decide) ?_
        refine zG.sub [1, 2, 3, 0] rfl ?_
        have e := Option.some.inj h
        exact K14 _ _ _ e.symm
      · have h := zite_n h c
        refine g_iconst (v := (0 : Int32)) dL_law_1630 (by decide) ?_
        refine g_zret dL_law_1631 hxt rfl ?_
        have e := Option.some.inj h
        have e := hl14 _ e.symm
        have e := hl11 _ e.symm
        exact Kret _ _ _ e
    have h := zite_n h c46
    rcases Decidable.em ((v18 &&& (63 : Int32)) = (47 : Int32)) with c | c47
    · have h := zite_p h c
      refine g_tsw (v := (47 : Int32)) (off := 1599) 1632 dL_law_33 c (by decide) (by decide) (by decide) (by decide) ?_
      refine g_aload_n dL_law_1632 1 rfl ?_
      refine g_cVMv (rv := fun x : Int32 => Value.int x) [] (fun x0 m0 e0 => ok_X0_back (xl X) g16 m17 r3 x0 m0 e0) zc0 (by decide) (lw_V q1393 q1394 q1395 q123 q1396) rfl hy_X0_back rfl ⟨by decide, by decide⟩ rfl zc_0 (by decide) dL_law_1633 h (fun v390 m391 h => ?_)
      refine g_aload_n dL_law_1636 2 rfl ?_
      refine g_cVMv (rv := fun x : Int32 => Value.int x) [] (fun x0 m0 e0 => ok_X2_back (xl X) g16 m391 r8 x0 m0 e0) zc2 (by decide) (lw_V q2101 q2102 q2103 q126 q2104) rfl hy_X2_back rfl ⟨by decide, by decide⟩ rfl (zc_i zc_0) (by decide) dL_law_1637 h (fun v392 m393 h => ?_)
      refine g_icmp_eq 1668 dL_law_1640 (by decide) (fun c => ?_) (fun c => ?_)
      · have h := zite_p h c
        refine g_iinc (v := (6 : Int32)) [(0, va_rf (some b)), (1, va_rf r3), (2, va_rf r8)] dL_law_1668 3 rfl (by decide) (by decide) (zf_r (zf_r (zf_r (zf_i zf_0)))) rfl h (fun v394 h => ?_)
        refine g_goto 18 dL_law_1671 (by decide) ?_
        refine zG.sub [1, 2, 3, 0] rfl ?_
        have e := Option.some.inj h
        exact K14 _ _ _ e.symm
      · have h := zite_n h c
        refine g_iconst (v := (0 : Int32)) dL_law_1643 (by decide) ?_
        refine g_zret dL_law_1644 hxt rfl ?_
        have e := Option.some.inj h
        have e := hl14 _ e.symm
        have e := hl11 _ e.symm
        exact Kret _ _ _ e
    have h := zite_n h c47
    rcases Decidable.em ((v18 &&& (63 : Int32)) = (48 : Int32)) with c | c48
    · have h := zite_p h c
      refine g_tsw (v := (48 : Int32)) (off := 1612) 1645 dL_law_33 c (by decide) (by decide) (by decide) (by decide) ?_
      refine g_aload_n dL_law_1645 1 rfl ?_
      refine g_aload_n dL_law_1646 0 rfl ?_
      refine g_iload_n dL_law_1647 3 rfl ?_
      refine g_iconst (v := (1 : Int32)) dL_law_1648 (by decide) ?_
      refine g_iadd dL_law_1649 ?_
      refine g_sald hX  dL_law_1650 h (fun v395 h => ?_)
      refine g_cVRv (rv := fun x : Int32 => Value.int x) [.int v395] (fun x0 e0 => ok_X0_about (xl X) g16 m17 r3 v395 x0 e0) zc0 (by decide) (lw_V q1397 q1398 q1399 q123 q1400) rfl hy_X0_about rfl ⟨by decide, by decide⟩ rfl zc_0 (by decide) dL_law_1651 h (fun v396 h => ?_)
      refine g_aload_n dL_law_1654 2 rfl ?_
      refine g_aload_n dL_law_1655 0 rfl ?_
      refine g_iload_n dL_law_1656 3 rfl ?_
      refine g_iconst (v := (1 : Int32)) dL_law_1657 (by decide) ?_
      refine g_iadd dL_law_1658 ?_
      refine g_sald hX  dL_law_1659 h (fun v397 h => ?_)
      refine g_cVRv (rv := fun x : Int32 => Value.int x) [.int v397] (fun x0 e0 => ok_X2_about (xl X) g16 m17 r8 v397 x0 e0) zc2 (by decide) (lw_V q2105 q2106 q2107 q126 q2108) rfl hy_X2_about rfl ⟨by decide, by decide⟩ rfl (zc_i zc_0) (by decide) dL_law_1660 h (fun v398 h => ?_)
      refine g_icmp_eq 1668 dL_law_1663 (by decide) (fun c => ?_) (fun c => ?_)
      · have h := zite_p h c
        refine g_iinc (v := (6 : Int32)) [(0, va_rf (some b)), (1, va_rf r3), (2, va_rf r8)] dL_law_1668 3 rfl (by decide) (by decide) (zf_r (zf_r (zf_r (zf_i zf_0)))) rfl h (fun v399 h => ?_)
        refine g_goto 18 dL_law_1671 (by decide) ?_
        refine zG.sub [1, 2, 3, 0] rfl ?_
        have e := Option.some.inj h
        exact K14 _ _ _ e.symm
      · have h := zite_n h c
        refine g_iconst (v := (0 : Int32)) dL_law_1666 (by decide) ?_
        refine g_zret dL_law_1667 hxt rfl ?_
        have e := Option.some.inj h
        have e := hl14 _ e.symm
        have e := hl11 _ e.symm
        exact Kret _ _ _ e
    have h := zite_n h c48
    refine g_tswG (n := 49) (vs := [(0 : Int32), (1 : Int32), (2 : Int32), (3 : Int32), (4 : Int32), (5 : Int32), (6 : Int32), (7 : Int32), (8 : Int32), (9 : Int32), (10 : Int32), (11 : Int32), (12 : Int32), (13 : Int32), (14 : Int32), (15 : Int32), (16 : Int32), (17 : Int32), (18 : Int32), (19 : Int32), (20 : Int32), (21 : Int32), (22 : Int32), (23 : Int32), (24 : Int32), (25 : Int32), (26 : Int32), (27 : Int32), (28 : Int32), (29 : Int32), (30 : Int32), (31 : Int32), (32 : Int32), (33 : Int32), (34 : Int32), (35 : Int32), (36 : Int32), (37 : Int32), (38 : Int32), (39 : Int32), (40 : Int32), (41 : Int32), (42 : Int32), (43 : Int32), (44 : Int32), (45 : Int32), (46 : Int32), (47 : Int32), (48 : Int32)]) 1668 dL_law_33 (List.forall_mem_cons.mpr ⟨c0, List.forall_mem_cons.mpr ⟨c1, List.forall_mem_cons.mpr ⟨c2, List.forall_mem_cons.mpr ⟨c3, List.forall_mem_cons.mpr ⟨c4, List.forall_mem_cons.mpr ⟨c5, List.forall_mem_cons.mpr ⟨c6, List.forall_mem_cons.mpr ⟨c7, List.forall_mem_cons.mpr ⟨c8, List.forall_mem_cons.mpr ⟨c9, List.forall_mem_cons.mpr ⟨c10, List.forall_mem_cons.mpr ⟨c11, List.forall_mem_cons.mpr ⟨c12, List.forall_mem_cons.mpr ⟨c13, List.forall_mem_cons.mpr ⟨c14, List.forall_mem_cons.mpr ⟨c15, List.forall_mem_cons.mpr ⟨c16, List.forall_mem_cons.mpr ⟨c17, List.forall_mem_cons.mpr ⟨c18, List.forall_mem_cons.mpr ⟨c19, List.forall_mem_cons.mpr ⟨c20, List.forall_mem_cons.mpr ⟨c21, List.forall_mem_cons.mpr ⟨c22, List.forall_mem_cons.mpr ⟨c23, List.forall_mem_cons.mpr ⟨c24, List.forall_mem_cons.mpr ⟨c25, List.forall_mem_cons.mpr ⟨c26, List.forall_mem_cons.mpr ⟨c27, List.forall_mem_cons.mpr ⟨c28, List.forall_mem_cons.mpr ⟨c29, List.forall_mem_cons.mpr ⟨c30, List.forall_mem_cons.mpr ⟨c31, List.forall_mem_cons.mpr ⟨c32, List.forall_mem_cons.mpr ⟨c33, List.forall_mem_cons.mpr ⟨c34, List.forall_mem_cons.mpr ⟨c35, List.forall_mem_cons.mpr ⟨c36, List.forall_mem_cons.mpr ⟨c37, List.forall_mem_cons.mpr ⟨c38, List.forall_mem_cons.mpr ⟨c39, List.forall_mem_cons.mpr ⟨c40, List.forall_mem_cons.mpr ⟨c41, List.forall_mem_cons.mpr ⟨c42, List.forall_mem_cons.mpr ⟨c43, List.forall_mem_cons.mpr ⟨c44, List.forall_mem_cons.mpr ⟨c45, List.forall_mem_cons.mpr ⟨c46, List.forall_mem_cons.mpr ⟨c47, List.forall_mem_cons.mpr ⟨c48, fun _ h9 => absurd h9 List.not_mem_nil⟩⟩⟩⟩⟩⟩⟩⟩⟩⟩⟩⟩⟩⟩⟩⟩⟩⟩⟩⟩⟩⟩⟩⟩⟩⟩⟩⟩⟩⟩⟩⟩⟩⟩⟩⟩⟩⟩⟩⟩⟩⟩⟩⟩⟩⟩⟩⟩⟩) (by decide) (by decide) (by decide) ?_
    refine g_iinc (v := (6 : Int32)) [(0, va_rf (some b)), (1, va_rf r3), (2, va_rf r8)] dL_law_1668 3 rfl (by decide) (by decide) (zf_r (zf_r (zf_r (zf_i zf_0)))) rfl h (fun v400 h => ?_)
    refine g_goto 18 dL_law_1671 (by decide) ?_
    refine zG.sub [1, 2, 3, 0] rfl ?_
    have e := Option.some.inj h
    exact K14 _ _ _ e.symm
