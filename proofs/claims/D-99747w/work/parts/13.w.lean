set_option maxRecDepth 100000
noncomputable def cL_law : xC := [(0, i_new 0 22 zX1 3),
  (3, i_dup 4),
  (4, i_ci [0] 87 0 7),
  (7, i_astore 1 8),
  (8, i_new 4 32 zX5 11),
  (11, i_dup 12),
  (12, i_ci [4] 246 0 15),
  (15, i_astore 2 16),
  (16, i_const (.int (nI 1)) 17),
  (17, i_newa 3 (.inr (.inl (fun _ => 0))) 19),
  (19, i_astore 3 20),
  (20, i_const (.int (nI 0)) 21),
  (21, i_istore 4 23),
  (23, i_iload 4 25),
  (25, i_aload 0 26),
  (26, i_len 27),
  (27, i_const (.int (nI 7)) 29),
  (29, i_ii (fun x y => x - y) 30),
  (30, i_if2 (fun x y => y < x) 1518 33),
  (33, i_aload 0 34),
  (34, i_iload 4 36),
  (36, i_ai 0 37),
  (37, i_const (.int (nI 63)) 39),
  (39, i_ii (fun x y => x &&& y) 40),
  (40, i_tsw 0 [228, 375, 388, 401, 438, 463, 476, 513, 538, 563, 588, 601, 626, 639, 664, 689, 726, 751, 776, 789, 802, 839, 876, 913, 950, 987, 1052, 1065, 1078, 1115, 1128, 1141, 1154, 1167, 1180, 1193, 1206, 1231, 1244, 1293, 1385, 1434, 1487] 1512),
  (228, i_aload 1 229),
  (229, i_aload 0 230),
  (230, i_iload 4 232),
  (232, i_const (.int (nI 1)) 233),
  (233, i_ii (fun x y => x + y) 234),
  (234, i_ai 0 235),
  (235, i_i2l 236),
  (236, i_const (.int (nI 32)) 238),
  (238, i_li (fun x y => x <<< (y.toInt64 &&& 63)) 239),
  (239, i_aload 0 240),
  (240, i_iload 4 242),
  (242, i_const (.int (nI 2)) 243),
  (243, i_ii (fun x y => x + y) 244),
  (244, i_ai 0 245),
  (245, i_i2l 246),
  (246, i_const (.long (lN 4294967295)) 249),
  (249, i_ll (fun x y => x &&& y) 250),
  (250, i_ll (fun x y => x ||| y) 251),
  (251, i_aload 0 252),
  (252, i_iload 4 254),
  (254, i_const (.int (nI 3)) 255),
  (255, i_ii (fun x y => x + y) 256),
  (256, i_ai 0 257),
  (257, i_i2l 258),
  (258, i_const (.int (nI 32)) 260),
  (260, i_li (fun x y => x <<< (y.toInt64 &&& 63)) 261),
  (261, i_aload 0 262),
  (262, i_iload 4 264),
  (264, i_const (.int (nI 4)) 265),
  (265, i_ii (fun x y => x + y) 266),
  (266, i_ai 0 267),
  (267, i_i2l 268),
  (268, i_const (.long (lN 4294967295)) 271),
  (271, i_ll (fun x y => x &&& y) 272),
  (272, i_ll (fun x y => x ||| y) 273),
  (273, i_aload 0 274),
  (274, i_iload 4 276),
  (276, i_const (.int (nI 5)) 277),
  (277, i_ii (fun x y => x + y) 278),
  (278, i_ai 0 279),
  (279, i_i2l 280),
  (280, i_const (.int (nI 32)) 282),
  (282, i_li (fun x y => x <<< (y.toInt64 &&& 63)) 283),
  (283, i_aload 0 284),
  (284, i_iload 4 286),
  (286, i_const (.int (nI 6)) 288),
  (288, i_ii (fun x y => x + y) 289),
  (289, i_ai 0 290),
  (290, i_i2l 291),
  (291, i_const (.long (lN 4294967295)) 294),
  (294, i_ll (fun x y => x &&& y) 295),
  (295, i_ll (fun x y => x ||| y) 296),
  (296, i_cv 0 89 3 299),
  (299, i_aload 2 300),
  (300, i_aload 0 301),
  (301, i_iload 4 303),
  (303, i_const (.int (nI 1)) 304),
  (304, i_ii (fun x y => x + y) 305),
  (305, i_ai 0 306),
  (306, i_i2l 307),
  (307, i_const (.int (nI 32)) 309),
  (309, i_li (fun x y => x <<< (y.toInt64 &&& 63)) 310),
  (310, i_aload 0 311),
  (311, i_iload 4 313),
  (313, i_const (.int (nI 2)) 314),
  (314, i_ii (fun x y => x + y) 315),
  (315, i_ai 0 316),
  (316, i_i2l 317),
  (317, i_const (.long (lN 4294967295)) 320),
  (320, i_ll (fun x y => x &&& y) 321),
  (321, i_ll (fun x y => x ||| y) 322),
  (322, i_aload 0 323),
  (323, i_iload 4 325),
  (325, i_const (.int (nI 3)) 326),
  (326, i_ii (fun x y => x + y) 327),
  (327, i_ai 0 328),
  (328, i_i2l 329),
  (329, i_const (.int (nI 32)) 331),
  (331, i_li (fun x y => x <<< (y.toInt64 &&& 63)) 332),
  (332, i_aload 0 333),
  (333, i_iload 4 335),
  (335, i_const (.int (nI 4)) 336),
  (336, i_ii (fun x y => x + y) 337),
  (337, i_ai 0 338),
  (338, i_i2l 339),
  (339, i_const (.long (lN 4294967295)) 342),
  (342, i_ll (fun x y => x &&& y) 343),
  (343, i_ll (fun x y => x ||| y) 344),
  (344, i_aload 0 345),
  (345, i_iload 4 347),
  (347, i_const (.int (nI 5)) 348),
  (348, i_ii (fun x y => x + y) 349),
  (349, i_ai 0 350),
  (350, i_i2l 351),
  (351, i_const (.int (nI 32)) 353),
  (353, i_li (fun x y => x <<< (y.toInt64 &&& 63)) 354),
  (354, i_aload 0 355),
  (355, i_iload 4 357),
  (357, i_const (.int (nI 6)) 359),
  (359, i_ii (fun x y => x + y) 360),
  (360, i_ai 0 361),
  (361, i_i2l 362),
  (362, i_const (.long (lN 4294967295)) 365),
  (365, i_ll (fun x y => x &&& y) 366),
  (366, i_ll (fun x y => x ||| y) 367),
  (367, i_cv 4 244 3 370),
  (370, i_if2 (fun x y => x = y) 1512 373),
  (373, i_const (.int (nI 0)) 374),
  (374, i_zret),
  (375, i_aload 1 376),
  (376, i_cv 0 90 0 379),
  (379, i_aload 2 380),
  (380, i_cv 4 253 0 383),
  (383, i_if2 (fun x y => x = y) 1512 386),
  (386, i_const (.int (nI 0)) 387),
  (387, i_zret),
  (388, i_aload 1 389),
  (389, i_cv 0 93 0 392),
  (392, i_aload 2 393),
  (393, i_cv 4 285 0 396),
  (396, i_if2 (fun x y => x = y) 1512 399),
  (399, i_const (.int (nI 0)) 400),
  (400, i_zret),
  (401, i_aload 1 402),
  (402, i_aload 0 403),
  (403, i_iload 4 405),
  (405, i_const (.int (nI 1)) 406),
  (406, i_ii (fun x y => x + y) 407),
  (407, i_ai 0 408),
  (408, i_aload 0 409),
  (409, i_iload 4 411),
  (411, i_const (.int (nI 2)) 412),
  (412, i_ii (fun x y => x + y) 413),
  (413, i_ai 0 414),
  (414, i_cv 0 94 2 417),
  (417, i_aload 2 418),
  (418, i_aload 0 419),
  (419, i_iload 4 421),
  (421, i_const (.int (nI 1)) 422),
  (422, i_ii (fun x y => x + y) 423),
  (423, i_ai 0 424),
  (424, i_aload 0 425),
  (425, i_iload 4 427),
  (427, i_const (.int (nI 2)) 428),
  (428, i_ii (fun x y => x + y) 429),
  (429, i_ai 0 430),
  (430, i_cv 4 286 2 433),
  (433, i_if2 (fun x y => x = y) 1512 436),
  (436, i_const (.int (nI 0)) 437),
  (437, i_zret),
  (438, i_aload 1 439),
  (439, i_aload 0 440),
  (440, i_iload 4 442),
  (442, i_const (.int (nI 1)) 443),
  (443, i_ii (fun x y => x + y) 444),
  (444, i_ai 0 445),
  (445, i_cv 0 99 1 448),
  (448, i_aload 2 449),
  (449, i_aload 0 450),
  (450, i_iload 4 452),
  (452, i_const (.int (nI 1)) 453),
  (453, i_ii (fun x y => x + y) 454),
  (454, i_ai 0 455),
  (455, i_cv 4 291 1 458),
  (458, i_if2 (fun x y => x = y) 1512 461),
  (461, i_const (.int (nI 0)) 462),
  (462, i_zret),
  (463, i_aload 1 464),
  (464, i_cv 0 102 0 467),
  (467, i_aload 2 468),
  (468, i_cv 4 293 0 471),
  (471, i_if2 (fun x y => x = y) 1512 474),
  (474, i_const (.int (nI 0)) 475),
  (475, i_zret),
  (476, i_aload 1 477),
  (477, i_aload 0 478),
  (478, i_iload 4 480),
  (480, i_const (.int (nI 1)) 481),
  (481, i_ii (fun x y => x + y) 482),
  (482, i_ai 0 483),
  (483, i_aload 0 484),
  (484, i_iload 4 486),
  (486, i_const (.int (nI 2)) 487),
  (487, i_ii (fun x y => x + y) 488),
  (488, i_ai 0 489),
  (489, i_cv 0 109 2 492),
  (492, i_aload 2 493),
  (493, i_aload 0 494),
  (494, i_iload 4 496),
  (496, i_const (.int (nI 1)) 497),
  (497, i_ii (fun x y => x + y) 498),
  (498, i_ai 0 499),
  (499, i_aload 0 500),
  (500, i_iload 4 502),
  (502, i_const (.int (nI 2)) 503),
  (503, i_ii (fun x y => x + y) 504),
  (504, i_ai 0 505),
  (505, i_cv 4 303 2 508),
  (508, i_if2 (fun x y => x = y) 1512 511),
  (511, i_const (.int (nI 0)) 512),
  (512, i_zret),
  (513, i_aload 1 514),
  (514, i_aload 0 515),
  (515, i_iload 4 517),
  (517, i_const (.int (nI 1)) 518),
  (518, i_ii (fun x y => x + y) 519),
  (519, i_ai 0 520),
  (520, i_cv 0 111 1 523),
  (523, i_aload 2 524),
  (524, i_aload 0 525),
  (525, i_iload 4 527),
  (527, i_const (.int (nI 1)) 528),
  (528, i_ii (fun x y => x + y) 529),
  (529, i_ai 0 530),
  (530, i_cv 4 307 1 533),
  (533, i_if2 (fun x y => x = y) 1512 536),
  (536, i_const (.int (nI 0)) 537),
  (537, i_zret),
  (538, i_aload 1 539),
  (539, i_aload 0 540),
  (540, i_iload 4 542),
  (542, i_const (.int (nI 1)) 543),
  (543, i_ii (fun x y => x + y) 544),
  (544, i_ai 0 545),
  (545, i_cv 0 112 1 548),
  (548, i_aload 2 549),
  (549, i_aload 0 550),
  (550, i_iload 4 552),
  (552, i_const (.int (nI 1)) 553),
  (553, i_ii (fun x y => x + y) 554),
  (554, i_ai 0 555),
  (555, i_cv 4 308 1 558),
  (558, i_if2 (fun x y => x = y) 1512 561),
  (561, i_const (.int (nI 0)) 562),
  (562, i_zret),
  (563, i_aload 1 564),
  (564, i_aload 0 565),
  (565, i_iload 4 567),
  (567, i_const (.int (nI 1)) 568),
  (568, i_ii (fun x y => x + y) 569),
  (569, i_ai 0 570),
  (570, i_cv 0 113 1 573),
  (573, i_aload 2 574),
  (574, i_aload 0 575),
  (575, i_iload 4 577),
  (577, i_const (.int (nI 1)) 578),
  (578, i_ii (fun x y => x + y) 579),
  (579, i_ai 0 580),
  (580, i_cv 4 310 1 583),
  (583, i_if2 (fun x y => x = y) 1512 586),
  (586, i_const (.int (nI 0)) 587),
  (587, i_zret),
  (588, i_aload 1 589),
  (589, i_cv 0 114 0 592),
  (592, i_aload 2 593),
  (593, i_cv 4 312 0 596),
  (596, i_if2 (fun x y => x = y) 1512 599),
  (599, i_const (.int (nI 0)) 600),
  (600, i_zret),
  (601, i_aload 1 602),
  (602, i_aload 0 603),
  (603, i_iload 4 605),
  (605, i_const (.int (nI 1)) 606),
  (606, i_ii (fun x y => x + y) 607),
  (607, i_ai 0 608),
  (608, i_cv 0 115 1 611),
  (611, i_aload 2 612),
  (612, i_aload 0 613),
  (613, i_iload 4 615),
  (615, i_const (.int (nI 1)) 616),
  (616, i_ii (fun x y => x + y) 617),
  (617, i_ai 0 618),
  (618, i_cv 4 313 1 621),
  (621, i_if2 (fun x y => x = y) 1512 624),
  (624, i_const (.int (nI 0)) 625),
  (625, i_zret),
  (626, i_aload 1 627),
  (627, i_cv 0 117 0 630),
  (630, i_aload 2 631),
  (631, i_cv 4 317 0 634),
  (634, i_if2 (fun x y => x = y) 1512 637),
  (637, i_const (.int (nI 0)) 638),
  (638, i_zret),
  (639, i_aload 1 640),
  (640, i_aload 0 641),
  (641, i_iload 4 643),
  (643, i_const (.int (nI 1)) 644),
  (644, i_ii (fun x y => x + y) 645),
  (645, i_ai 0 646),
  (646, i_cv 0 118 1 649),
  (649, i_aload 2 650),
  (650, i_aload 0 651),
  (651, i_iload 4 653),
  (653, i_const (.int (nI 1)) 654),
  (654, i_ii (fun x y => x + y) 655),
  (655, i_ai 0 656),
  (656, i_cv 4 318 1 659),
  (659, i_if2 (fun x y => x = y) 1512 662),
  (662, i_const (.int (nI 0)) 663),
  (663, i_zret),
  (664, i_aload 1 665),
  (665, i_aload 0 666),
  (666, i_iload 4 668),
  (668, i_const (.int (nI 1)) 669),
  (669, i_ii (fun x y => x + y) 670),
  (670, i_ai 0 671),
  (671, i_cv 0 124 1 674),
  (674, i_aload 2 675),
  (675, i_aload 0 676),
  (676, i_iload 4 678),
  (678, i_const (.int (nI 1)) 679),
  (679, i_ii (fun x y => x + y) 680),
  (680, i_ai 0 681),
  (681, i_cv 4 324 1 684),
  (684, i_if2 (fun x y => x = y) 1512 687),
  (687, i_const (.int (nI 0)) 688),
  (688, i_zret),
  (689, i_aload 1 690),
  (690, i_aload 0 691),
  (691, i_iload 4 693),
  (693, i_const (.int (nI 1)) 694),
  (694, i_ii (fun x y => x + y) 695),
  (695, i_ai 0 696),
  (696, i_aload 0 697),
  (697, i_iload 4 699),
  (699, i_const (.int (nI 2)) 700),
  (700, i_ii (fun x y => x + y) 701),
  (701, i_ai 0 702),
  (702, i_cv 0 130 2 705),
  (705, i_aload 2 706),
  (706, i_aload 0 707),
  (707, i_iload 4 709),
  (709, i_const (.int (nI 1)) 710),
  (710, i_ii (fun x y => x + y) 711),
  (711, i_ai 0 712),
  (712, i_aload 0 713),
  (713, i_iload 4 715),
  (715, i_const (.int (nI 2)) 716),
  (716, i_ii (fun x y => x + y) 717),
  (717, i_ai 0 718),
  (718, i_cv 4 336 2 721),
  (721, i_if2 (fun x y => x = y) 1512 724),
  (724, i_const (.int (nI 0)) 725),
  (725, i_zret),
  (726, i_aload 1 727),
  (727, i_aload 0 728),
  (728, i_iload 4 730),
  (730, i_const (.int (nI 1)) 731),
  (731, i_ii (fun x y => x + y) 732),
  (732, i_ai 0 733),
  (733, i_cv 0 132 1 736),
  (736, i_aload 2 737),
  (737, i_aload 0 738),
  (738, i_iload 4 740),
  (740, i_const (.int (nI 1)) 741),
  (741, i_ii (fun x y => x + y) 742),
  (742, i_ai 0 743),
  (743, i_cv 4 338 1 746),
  (746, i_if2 (fun x y => x = y) 1512 749),
  (749, i_const (.int (nI 0)) 750),
  (750, i_zret),
  (751, i_aload 1 752),
  (752, i_aload 0 753),
  (753, i_iload 4 755),
  (755, i_const (.int (nI 1)) 756),
  (756, i_ii (fun x y => x + y) 757),
  (757, i_ai 0 758),
  (758, i_cv 0 134 1 761),
  (761, i_aload 2 762),
  (762, i_aload 0 763),
  (763, i_iload 4 765),
  (765, i_const (.int (nI 1)) 766),
  (766, i_ii (fun x y => x + y) 767),
  (767, i_ai 0 768),
  (768, i_cv 4 340 1 771),
  (771, i_if2 (fun x y => x = y) 1512 774),
  (774, i_const (.int (nI 0)) 775),
  (775, i_zret),
  (776, i_aload 1 777),
  (777, i_cv 0 135 0 780),
  (780, i_aload 2 781),
  (781, i_cv 4 341 0 784),
  (784, i_if2 (fun x y => x = y) 1512 787),
  (787, i_const (.int (nI 0)) 788),
  (788, i_zret),
  (789, i_aload 1 790),
  (790, i_cv 0 136 0 793),
  (793, i_aload 2 794),
  (794, i_cv 4 342 0 797),
  (797, i_if2 (fun x y => x = y) 1512 800),
  (800, i_const (.int (nI 0)) 801),
  (801, i_zret),
  (802, i_aload 1 803),
  (803, i_aload 0 804),
  (804, i_iload 4 806),
  (806, i_const (.int (nI 1)) 807),
  (807, i_ii (fun x y => x + y) 808),
  (808, i_ai 0 809),
  (809, i_aload 0 810),
  (810, i_iload 4 812),
  (812, i_const (.int (nI 2)) 813),
  (813, i_ii (fun x y => x + y) 814),
  (814, i_ai 0 815),
  (815, i_cv 0 137 2 818),
  (818, i_aload 2 819),
  (819, i_aload 0 820),
  (820, i_iload 4 822),
  (822, i_const (.int (nI 1)) 823),
  (823, i_ii (fun x y => x + y) 824),
  (824, i_ai 0 825),
  (825, i_aload 0 826),
  (826, i_iload 4 828),
  (828, i_const (.int (nI 2)) 829),
  (829, i_ii (fun x y => x + y) 830),
  (830, i_ai 0 831),
  (831, i_cv 4 343 2 834),
  (834, i_if2 (fun x y => x = y) 1512 837),
  (837, i_const (.int (nI 0)) 838),
  (838, i_zret),
  (839, i_aload 1 840),
  (840, i_aload 0 841),
  (841, i_iload 4 843),
  (843, i_const (.int (nI 1)) 844),
  (844, i_ii (fun x y => x + y) 845),
  (845, i_ai 0 846),
  (846, i_aload 0 847),
  (847, i_iload 4 849),
  (849, i_const (.int (nI 2)) 850),
  (850, i_ii (fun x y => x + y) 851),
  (851, i_ai 0 852),
  (852, i_cv 0 139 2 855),
  (855, i_aload 2 856),
  (856, i_aload 0 857),
  (857, i_iload 4 859),
  (859, i_const (.int (nI 1)) 860),
  (860, i_ii (fun x y => x + y) 861),
  (861, i_ai 0 862),
  (862, i_aload 0 863),
  (863, i_iload 4 865),
  (865, i_const (.int (nI 2)) 866),
  (866, i_ii (fun x y => x + y) 867),
  (867, i_ai 0 868),
  (868, i_cv 4 346 2 871),
  (871, i_if2 (fun x y => x = y) 1512 874),
  (874, i_const (.int (nI 0)) 875),
  (875, i_zret),
  (876, i_aload 1 877),
  (877, i_aload 0 878),
  (878, i_iload 4 880),
  (880, i_const (.int (nI 1)) 881),
  (881, i_ii (fun x y => x + y) 882),
  (882, i_ai 0 883),
  (883, i_aload 0 884),
  (884, i_iload 4 886),
  (886, i_const (.int (nI 2)) 887),
  (887, i_ii (fun x y => x + y) 888),
  (888, i_ai 0 889),
  (889, i_cv 0 140 2 892),
  (892, i_aload 2 893),
  (893, i_aload 0 894),
  (894, i_iload 4 896),
  (896, i_const (.int (nI 1)) 897),
  (897, i_ii (fun x y => x + y) 898),
  (898, i_ai 0 899),
  (899, i_aload 0 900),
  (900, i_iload 4 902),
  (902, i_const (.int (nI 2)) 903),
  (903, i_ii (fun x y => x + y) 904),
  (904, i_ai 0 905),
  (905, i_cv 4 347 2 908),
  (908, i_if2 (fun x y => x = y) 1512 911),
  (911, i_const (.int (nI 0)) 912),
  (912, i_zret),
  (913, i_aload 1 914),
  (914, i_aload 0 915),
  (915, i_iload 4 917),
  (917, i_const (.int (nI 1)) 918),
  (918, i_ii (fun x y => x + y) 919),
  (919, i_ai 0 920),
  (920, i_aload 0 921),
  (921, i_iload 4 923),
  (923, i_const (.int (nI 2)) 924),
  (924, i_ii (fun x y => x + y) 925),
  (925, i_ai 0 926),
  (926, i_cv 0 141 2 929),
  (929, i_aload 2 930),
  (930, i_aload 0 931),
  (931, i_iload 4 933),
  (933, i_const (.int (nI 1)) 934),
  (934, i_ii (fun x y => x + y) 935),
  (935, i_ai 0 936),
  (936, i_aload 0 937),
  (937, i_iload 4 939),
  (939, i_const (.int (nI 2)) 940),
  (940, i_ii (fun x y => x + y) 941),
  (941, i_ai 0 942),
  (942, i_cv 4 333 2 945),
  (945, i_if2 (fun x y => x = y) 1512 948),
  (948, i_const (.int (nI 0)) 949),
  (949, i_zret),
  (950, i_aload 1 951),
  (951, i_aload 0 952),
  (952, i_iload 4 954),
  (954, i_const (.int (nI 1)) 955),
  (955, i_ii (fun x y => x + y) 956),
  (956, i_ai 0 957),
  (957, i_aload 0 958),
  (958, i_iload 4 960),
  (960, i_const (.int (nI 2)) 961),
  (961, i_ii (fun x y => x + y) 962),
  (962, i_ai 0 963),
  (963, i_cv 0 142 2 966),
  (966, i_aload 2 967),
  (967, i_aload 0 968),
  (968, i_iload 4 970),
  (970, i_const (.int (nI 1)) 971),
  (971, i_ii (fun x y => x + y) 972),
  (972, i_ai 0 973),
  (973, i_aload 0 974),
  (974, i_iload 4 976),
  (976, i_const (.int (nI 2)) 977),
  (977, i_ii (fun x y => x + y) 978),
  (978, i_ai 0 979),
  (979, i_cv 4 348 2 982),
  (982, i_if2 (fun x y => x = y) 1512 985),
  (985, i_const (.int (nI 0)) 986),
  (986, i_zret),
  (987, i_aload 1 988),
  (988, i_aload 0 989),
  (989, i_iload 4 991),
  (991, i_const (.int (nI 1)) 992),
  (992, i_ii (fun x y => x + y) 993),
  (993, i_ai 0 994),
  (994, i_aload 0 995),
  (995, i_iload 4 997),
  (997, i_const (.int (nI 2)) 998),
  (998, i_ii (fun x y => x + y) 999),
  (999, i_ai 0 1000),
  (1000, i_aload 0 1001),
  (1001, i_iload 4 1003),
  (1003, i_const (.int (nI 3)) 1004),
  (1004, i_ii (fun x y => x + y) 1005),
  (1005, i_ai 0 1006),
  (1006, i_if1 (fun x => x = 0) 1013 1009),
  (1009, i_const (.int (nI 1)) 1010),
  (1010, i_goto 1014),
  (1013, i_const (.int (nI 0)) 1014),
  (1014, i_cv 0 145 3 1017),
  (1017, i_aload 2 1018),
  (1018, i_aload 0 1019),
  (1019, i_iload 4 1021),
  (1021, i_const (.int (nI 1)) 1022),
  (1022, i_ii (fun x y => x + y) 1023),
  (1023, i_ai 0 1024),
  (1024, i_aload 0 1025),
  (1025, i_iload 4 1027),
  (1027, i_const (.int (nI 2)) 1028),
  (1028, i_ii (fun x y => x + y) 1029),
  (1029, i_ai 0 1030),
  (1030, i_aload 0 1031),
  (1031, i_iload 4 1033),
  (1033, i_const (.int (nI 3)) 1034),
  (1034, i_ii (fun x y => x + y) 1035),
  (1035, i_ai 0 1036),
  (1036, i_if1 (fun x => x = 0) 1043 1039),
  (1039, i_const (.int (nI 1)) 1040),
  (1040, i_goto 1044),
  (1043, i_const (.int (nI 0)) 1044),
  (1044, i_cv 4 351 3 1047),
  (1047, i_if2 (fun x y => x = y) 1512 1050),
  (1050, i_const (.int (nI 0)) 1051),
  (1051, i_zret),
  (1052, i_aload 1 1053),
  (1053, i_cv 0 146 0 1056),
  (1056, i_aload 2 1057),
  (1057, i_cv 4 352 0 1060),
  (1060, i_if2 (fun x y => x = y) 1512 1063),
  (1063, i_const (.int (nI 0)) 1064),
  (1064, i_zret),
  (1065, i_aload 1 1066),
  (1066, i_cv 0 148 0 1069),
  (1069, i_aload 2 1070),
  (1070, i_cv 4 354 0 1073),
  (1073, i_if2 (fun x y => x = y) 1512 1076),
  (1076, i_const (.int (nI 0)) 1077),
  (1077, i_zret),
  (1078, i_aload 1 1079),
  (1079, i_aload 0 1080),
  (1080, i_iload 4 1082),
  (1082, i_const (.int (nI 1)) 1083),
  (1083, i_ii (fun x y => x + y) 1084),
  (1084, i_ai 0 1085),
  (1085, i_aload 0 1086),
  (1086, i_iload 4 1088),
  (1088, i_const (.int (nI 2)) 1089),
  (1089, i_ii (fun x y => x + y) 1090),
  (1090, i_ai 0 1091),
  (1091, i_cv 0 149 2 1094),
  (1094, i_aload 2 1095),
  (1095, i_aload 0 1096),
  (1096, i_iload 4 1098),
  (1098, i_const (.int (nI 1)) 1099),
  (1099, i_ii (fun x y => x + y) 1100),
  (1100, i_ai 0 1101),
  (1101, i_aload 0 1102),
  (1102, i_iload 4 1104),
  (1104, i_const (.int (nI 2)) 1105),
  (1105, i_ii (fun x y => x + y) 1106),
  (1106, i_ai 0 1107),
  (1107, i_cv 4 355 2 1110),
  (1110, i_if2 (fun x y => x = y) 1512 1113),
  (1113, i_const (.int (nI 0)) 1114),
  (1114, i_zret),
  (1115, i_aload 1 1116),
  (1116, i_cv 0 150 0 1119),
  (1119, i_aload 2 1120),
  (1120, i_cv 4 356 0 1123),
  (1123, i_if2 (fun x y => x = y) 1512 1126),
  (1126, i_const (.int (nI 0)) 1127),
  (1127, i_zret),
  (1128, i_aload 1 1129),
  (1129, i_cv 0 151 0 1132),
  (1132, i_aload 2 1133),
  (1133, i_cv 4 334 0 1136),
  (1136, i_if2 (fun x y => x = y) 1512 1139),
  (1139, i_const (.int (nI 0)) 1140),
  (1140, i_zret),
  (1141, i_aload 1 1142),
  (1142, i_cv 0 126 0 1145),
  (1145, i_aload 2 1146),
  (1146, i_cv 4 328 0 1149),
  (1149, i_if2 (fun x y => x = y) 1512 1152),
  (1152, i_const (.int (nI 0)) 1153),
  (1153, i_zret),
  (1154, i_aload 1 1155),
  (1155, i_cv 0 128 0 1158),
  (1158, i_aload 2 1159),
  (1159, i_cv 4 327 0 1162),
  (1162, i_if2 (fun x y => x = y) 1512 1165),
  (1165, i_const (.int (nI 0)) 1166),
  (1166, i_zret),
  (1167, i_aload 1 1168),
  (1168, i_cv 0 152 0 1171),
  (1171, i_aload 2 1172),
  (1172, i_cv 4 335 0 1175),
  (1175, i_if2 (fun x y => x = y) 1512 1178),
  (1178, i_const (.int (nI 0)) 1179),
  (1179, i_zret),
  (1180, i_aload 1 1181),
  (1181, i_cv 0 153 0 1184),
  (1184, i_aload 2 1185),
  (1185, i_cv 4 330 0 1188),
  (1188, i_if2 (fun x y => x = y) 1512 1191),
  (1191, i_const (.int (nI 0)) 1192),
  (1192, i_zret),
  (1193, i_aload 1 1194),
  (1194, i_cv 0 154 0 1197),
  (1197, i_aload 2 1198),
  (1198, i_cv 4 331 0 1201),
  (1201, i_if2 (fun x y => x = y) 1512 1204),
  (1204, i_const (.int (nI 0)) 1205),
  (1205, i_zret),
  (1206, i_aload 1 1207),
  (1207, i_aload 0 1208),
  (1208, i_iload 4 1210),
  (1210, i_const (.int (nI 1)) 1211),
  (1211, i_ii (fun x y => x + y) 1212),
  (1212, i_ai 0 1213),
  (1213, i_cv 0 129 1 1216),
  (1216, i_aload 2 1217),
  (1217, i_aload 0 1218),
  (1218, i_iload 4 1220),
  (1220, i_const (.int (nI 1)) 1221),
  (1221, i_ii (fun x y => x + y) 1222),
  (1222, i_ai 0 1223),
  (1223, i_cv 4 329 1 1226),
  (1226, i_if2 (fun x y => x = y) 1512 1229),
  (1229, i_const (.int (nI 0)) 1230),
  (1230, i_zret),
  (1231, i_aload 1 1232),
  (1232, i_cv 0 127 0 1235),
  (1235, i_aload 2 1236),
  (1236, i_cv 4 326 0 1239),
  (1239, i_if2 (fun x y => x = y) 1512 1242),
  (1242, i_const (.int (nI 0)) 1243),
  (1243, i_zret),
  (1244, i_aload 1 1245),
  (1245, i_aload 0 1246),
  (1246, i_iload 4 1248),
  (1248, i_const (.int (nI 1)) 1249),
  (1249, i_ii (fun x y => x + y) 1250),
  (1250, i_ai 0 1251),
  (1251, i_aload 0 1252),
  (1252, i_iload 4 1254),
  (1254, i_const (.int (nI 2)) 1255),
  (1255, i_ii (fun x y => x + y) 1256),
  (1256, i_ai 0 1257),
  (1257, i_aload 0 1258),
  (1258, i_iload 4 1260),
  (1260, i_const (.int (nI 3)) 1261),
  (1261, i_ii (fun x y => x + y) 1262),
  (1262, i_ai 0 1263),
  (1263, i_cv 0 156 3 1266),
  (1266, i_aload 2 1267),
  (1267, i_aload 0 1268),
  (1268, i_iload 4 1270),
  (1270, i_const (.int (nI 1)) 1271),
  (1271, i_ii (fun x y => x + y) 1272),
  (1272, i_ai 0 1273),
  (1273, i_aload 0 1274),
  (1274, i_iload 4 1276),
  (1276, i_const (.int (nI 2)) 1277),
  (1277, i_ii (fun x y => x + y) 1278),
  (1278, i_ai 0 1279),
  (1279, i_aload 0 1280),
  (1280, i_iload 4 1282),
  (1282, i_const (.int (nI 3)) 1283),
  (1283, i_ii (fun x y => x + y) 1284),
  (1284, i_ai 0 1285),
  (1285, i_cv 4 357 3 1288),
  (1288, i_if2 (fun x y => x = y) 1512 1291),
  (1291, i_const (.int (nI 0)) 1292),
  (1292, i_zret),
  (1293, i_aload 1 1294),
  (1294, i_aload 0 1295),
  (1295, i_iload 4 1297),
  (1297, i_const (.int (nI 1)) 1298),
  (1298, i_ii (fun x y => x + y) 1299),
  (1299, i_ai 0 1300),
  (1300, i_aload 0 1301),
  (1301, i_iload 4 1303),
  (1303, i_const (.int (nI 2)) 1304),
  (1304, i_ii (fun x y => x + y) 1305),
  (1305, i_ai 0 1306),
  (1306, i_aload 0 1307),
  (1307, i_iload 4 1309),
  (1309, i_const (.int (nI 3)) 1310),
  (1310, i_ii (fun x y => x + y) 1311),
  (1311, i_ai 0 1312),
  (1312, i_aload 0 1313),
  (1313, i_iload 4 1315),
  (1315, i_const (.int (nI 4)) 1316),
  (1316, i_ii (fun x y => x + y) 1317),
  (1317, i_ai 0 1318),
  (1318, i_aload 3 1319),
  (1319, i_cs 86 6 1322),
  (1322, i_istore 5 1324),
  (1324, i_aload 2 1325),
  (1325, i_aload 0 1326),
  (1326, i_iload 4 1328),
  (1328, i_const (.int (nI 1)) 1329),
  (1329, i_ii (fun x y => x + y) 1330),
  (1330, i_ai 0 1331),
  (1331, i_aload 0 1332),
  (1332, i_iload 4 1334),
  (1334, i_const (.int (nI 2)) 1335),
  (1335, i_ii (fun x y => x + y) 1336),
  (1336, i_ai 0 1337),
  (1337, i_aload 0 1338),
  (1338, i_iload 4 1340),
  (1340, i_const (.int (nI 3)) 1341),
  (1341, i_ii (fun x y => x + y) 1342),
  (1342, i_ai 0 1343),
  (1343, i_aload 0 1344),
  (1344, i_iload 4 1346),
  (1346, i_const (.int (nI 4)) 1347),
  (1347, i_ii (fun x y => x + y) 1348),
  (1348, i_ai 0 1349),
  (1349, i_cv 4 358 4 1352),
  (1352, i_istore 6 1354),
  (1354, i_aload 2 1355),
  (1355, i_cv 4 243 0 1358),
  (1358, i_iload 5 1360),
  (1360, i_if2 (fun x y => x = y) 1365 1363),
  (1363, i_const (.int (nI 0)) 1364),
  (1364, i_zret),
  (1365, i_iload 5 1367),
  (1367, i_if1 (fun x => ¬ x = 0) 1382 1370),
  (1370, i_aload 3 1371),
  (1371, i_const (.int (nI 0)) 1372),
  (1372, i_al 3 1373),
  (1373, i_iload 6 1375),
  (1375, i_i2l 1376),
  (1376, i_lcmp 1377),
  (1377, i_if1 (fun x => x = 0) 1382 1380),
  (1380, i_const (.int (nI 0)) 1381),
  (1381, i_zret),
  (1382, i_goto 1512),
  (1385, i_aload 1 1386),
  (1386, i_aload 0 1387),
  (1387, i_iload 4 1389),
  (1389, i_const (.int (nI 1)) 1390),
  (1390, i_ii (fun x y => x + y) 1391),
  (1391, i_ai 0 1392),
  (1392, i_aload 0 1393),
  (1393, i_iload 4 1395),
  (1395, i_const (.int (nI 2)) 1396),
  (1396, i_ii (fun x y => x + y) 1397),
  (1397, i_ai 0 1398),
  (1398, i_aload 0 1399),
  (1399, i_iload 4 1401),
  (1401, i_const (.int (nI 3)) 1402),
  (1402, i_ii (fun x y => x + y) 1403),
  (1403, i_ai 0 1404),
  (1404, i_cv 0 157 3 1407),
  (1407, i_aload 2 1408),
  (1408, i_aload 0 1409),
  (1409, i_iload 4 1411),
  (1411, i_const (.int (nI 1)) 1412),
  (1412, i_ii (fun x y => x + y) 1413),
  (1413, i_ai 0 1414),
  (1414, i_aload 0 1415),
  (1415, i_iload 4 1417),
  (1417, i_const (.int (nI 2)) 1418),
  (1418, i_ii (fun x y => x + y) 1419),
  (1419, i_ai 0 1420),
  (1420, i_aload 0 1421),
  (1421, i_iload 4 1423),
  (1423, i_const (.int (nI 3)) 1424),
  (1424, i_ii (fun x y => x + y) 1425),
  (1425, i_ai 0 1426),
  (1426, i_cv 4 360 3 1429),
  (1429, i_if2 (fun x y => x = y) 1512 1432),
  (1432, i_const (.int (nI 0)) 1433),
  (1433, i_zret),
  (1434, i_aload 1 1435),
  (1435, i_aload 0 1436),
  (1436, i_iload 4 1438),
  (1438, i_const (.int (nI 1)) 1439),
  (1439, i_ii (fun x y => x + y) 1440),
  (1440, i_ai 0 1441),
  (1441, i_aload 0 1442),
  (1442, i_iload 4 1444),
  (1444, i_const (.int (nI 2)) 1445),
  (1445, i_ii (fun x y => x + y) 1446),
  (1446, i_ai 0 1447),
  (1447, i_if1 (fun x => x = 0) 1454 1450),
  (1450, i_const (.int (nI 1)) 1451),
  (1451, i_goto 1455),
  (1454, i_const (.int (nI 0)) 1455),
  (1455, i_cv 0 161 2 1458),
  (1458, i_aload 2 1459),
  (1459, i_aload 0 1460),
  (1460, i_iload 4 1462),
  (1462, i_const (.int (nI 1)) 1463),
  (1463, i_ii (fun x y => x + y) 1464),
  (1464, i_ai 0 1465),
  (1465, i_aload 0 1466),
  (1466, i_iload 4 1468),
  (1468, i_const (.int (nI 2)) 1469),
  (1469, i_ii (fun x y => x + y) 1470),
  (1470, i_ai 0 1471),
  (1471, i_if1 (fun x => x = 0) 1478 1474),
  (1474, i_const (.int (nI 1)) 1475),
  (1475, i_goto 1479),
  (1478, i_const (.int (nI 0)) 1479),
  (1479, i_cv 4 364 2 1482),
  (1482, i_if2 (fun x y => x = y) 1512 1485),
  (1485, i_const (.int (nI 0)) 1486),
  (1486, i_zret),
  (1487, i_aload 1 1488),
  (1488, i_aload 0 1489),
  (1489, i_iload 4 1491),
  (1491, i_const (.int (nI 1)) 1492),
  (1492, i_ii (fun x y => x + y) 1493),
  (1493, i_ai 0 1494),
  (1494, i_cv 0 162 1 1497),
  (1497, i_aload 2 1498),
  (1498, i_aload 0 1499),
  (1499, i_iload 4 1501),
  (1501, i_const (.int (nI 1)) 1502),
  (1502, i_ii (fun x y => x + y) 1503),
  (1503, i_ai 0 1504),
  (1504, i_cv 4 365 1 1507),
  (1507, i_if2 (fun x y => x = y) 1512 1510),
  (1510, i_const (.int (nI 0)) 1511),
  (1511, i_zret),
  (1512, i_iinc 4 (nI 7) 1515),
  (1515, i_goto 23),
  (1518, i_const (.int (nI 1)) 1519),
  (1519, i_zret)]
theorem eL_law_0 {ev : xV} {v0 v1 v2 v3 v4 v5 v6 : Option Value} {st : List Value} {h : xH} : exF ev cL_law 0 ([v0, v1, v2, v3, v4, v5, v6], []) st h = exF ev cL_law 3 ([v0, v1, v2, v3, v4, v5, v6], []) (.ref h.2.1 :: st) (xnew h (.inr (0, zX1)) 22) := exF_j (i := (i_new 0 22 zX1 3)) rfl rfl
theorem eL_law_3 {ev : xV} {v0 v1 v2 v3 v4 v5 v6 : Option Value} {x : Nat} {st : List Value} {h : xH} : exF ev cL_law 3 ([v0, v1, v2, v3, v4, v5, v6], []) (.ref x :: st) h = exF ev cL_law 4 ([v0, v1, v2, v3, v4, v5, v6], []) (.ref x :: .ref x :: st) h := exF_j (i := (i_dup 4)) rfl rfl
theorem eL_law_4 {ev : xV} {v0 v1 v2 v3 v4 v5 v6 : Option Value} {r0 : Value} {a : Nat} {h : xH} : exF ev cL_law 4 ([v0, v1, v2, v3, v4, v5, v6], []) [.ref a, r0] h = xO (xckc h [0] a) (fun _ => xBv (ev 87 [.ref a] h) (fun h => exF ev cL_law 7 ([v0, v1, v2, v3, v4, v5, v6], []) [r0] h)) := exF_cdv (i := (i_ci [0] 87 0 7)) rfl rfl
theorem eL_law_7 {ev : xV} {v0 v1 v2 v3 v4 v5 v6 : Option Value} {x : Nat} {st : List Value} {h : xH} : exF ev cL_law 7 ([v0, v1, v2, v3, v4, v5, v6], []) (.ref x :: st) h = exF ev cL_law 8 ([v0, some (.ref x), v2, v3, v4, v5, v6], []) st h := exF_j (i := (i_astore 1 8)) rfl rfl
theorem eL_law_8 {ev : xV} {v0 v1 v2 v3 v4 v5 v6 : Option Value} {st : List Value} {h : xH} : exF ev cL_law 8 ([v0, v1, v2, v3, v4, v5, v6], []) st h = exF ev cL_law 11 ([v0, v1, v2, v3, v4, v5, v6], []) (.ref h.2.1 :: st) (xnew h (.inr (4, zX5)) 32) := exF_j (i := (i_new 4 32 zX5 11)) rfl rfl
theorem eL_law_11 {ev : xV} {v0 v1 v2 v3 v4 v5 v6 : Option Value} {x : Nat} {st : List Value} {h : xH} : exF ev cL_law 11 ([v0, v1, v2, v3, v4, v5, v6], []) (.ref x :: st) h = exF ev cL_law 12 ([v0, v1, v2, v3, v4, v5, v6], []) (.ref x :: .ref x :: st) h := exF_j (i := (i_dup 12)) rfl rfl
theorem eL_law_12 {ev : xV} {v0 v1 v2 v3 v4 v5 v6 : Option Value} {r0 : Value} {a : Nat} {h : xH} : exF ev cL_law 12 ([v0, v1, v2, v3, v4, v5, v6], []) [.ref a, r0] h = xO (xckc h [4] a) (fun _ => xBv (ev 246 [.ref a] h) (fun h => exF ev cL_law 15 ([v0, v1, v2, v3, v4, v5, v6], []) [r0] h)) := exF_cdv (i := (i_ci [4] 246 0 15)) rfl rfl
theorem eL_law_15 {ev : xV} {v0 v1 v2 v3 v4 v5 v6 : Option Value} {x : Nat} {st : List Value} {h : xH} : exF ev cL_law 15 ([v0, v1, v2, v3, v4, v5, v6], []) (.ref x :: st) h = exF ev cL_law 16 ([v0, v1, some (.ref x), v3, v4, v5, v6], []) st h := exF_j (i := (i_astore 2 16)) rfl rfl
theorem eL_law_16 {ev : xV} {v0 v1 v2 v3 v4 v5 v6 : Option Value} {st : List Value} {h : xH} : exF ev cL_law 16 ([v0, v1, v2, v3, v4, v5, v6], []) st h = exF ev cL_law 17 ([v0, v1, v2, v3, v4, v5, v6], []) (.int (nI 1) :: st) h := exF_j (i := (i_const (.int (nI 1)) 17)) rfl rfl
theorem eL_law_17 {ev : xV} {v0 v1 v2 v3 v4 v5 v6 : Option Value} {x : Int32} {st : List Value} {h : xH} : exF ev cL_law 17 ([v0, v1, v2, v3, v4, v5, v6], []) (.int x :: st) h = xO (xcnt x) (fun k => exF ev cL_law 19 ([v0, v1, v2, v3, v4, v5, v6], []) (.ref h.2.1 :: st) (xnew h (.inl (3, k, .inr (.inl (fun _ => 0)))) k)) := exF_o (i := (i_newa 3 (.inr (.inl (fun _ => 0))) 19)) rfl rfl
theorem eL_law_19 {ev : xV} {v0 v1 v2 v3 v4 v5 v6 : Option Value} {x : Nat} {st : List Value} {h : xH} : exF ev cL_law 19 ([v0, v1, v2, v3, v4, v5, v6], []) (.ref x :: st) h = exF ev cL_law 20 ([v0, v1, v2, some (.ref x), v4, v5, v6], []) st h := exF_j (i := (i_astore 3 20)) rfl rfl
theorem eL_law_20 {ev : xV} {v0 v1 v2 v3 v4 v5 v6 : Option Value} {st : List Value} {h : xH} : exF ev cL_law 20 ([v0, v1, v2, v3, v4, v5, v6], []) st h = exF ev cL_law 21 ([v0, v1, v2, v3, v4, v5, v6], []) (.int (nI 0) :: st) h := exF_j (i := (i_const (.int (nI 0)) 21)) rfl rfl
theorem eL_law_21 {ev : xV} {v0 v1 v2 v3 v4 v5 v6 : Option Value} {x : Int32} {st : List Value} {h : xH} : exF ev cL_law 21 ([v0, v1, v2, v3, v4, v5, v6], []) (.int x :: st) h = exF ev cL_law 23 ([v0, v1, v2, v3, some (.int x), v5, v6], []) st h := exF_j (i := (i_istore 4 23)) rfl rfl
theorem eL_law_23 {ev : xV} {v0 v1 v2 v3 v5 v6 : Option Value} {x : Int32} {st : List Value} {h : xH} : exF ev cL_law 23 ([v0, v1, v2, v3, some (.int x), v5, v6], []) st h = exF ev cL_law 25 ([v0, v1, v2, v3, some (.int x), v5, v6], []) (.int x :: st) h := exF_j (i := (i_iload 4 25)) rfl rfl
theorem eL_law_25 {ev : xV} {v1 v2 v3 v4 v5 v6 : Option Value} {x : Nat} {st : List Value} {h : xH} : exF ev cL_law 25 ([some (.ref x), v1, v2, v3, v4, v5, v6], []) st h = exF ev cL_law 26 ([some (.ref x), v1, v2, v3, v4, v5, v6], []) (.ref x :: st) h := exF_j (i := (i_aload 0 26)) rfl rfl
theorem eL_law_26 {ev : xV} {v0 v1 v2 v3 v4 v5 v6 : Option Value} {a : Nat} {st : List Value} {h : xH} : exF ev cL_law 26 ([v0, v1, v2, v3, v4, v5, v6], []) (.ref a :: st) h = xO (xlen h a) (fun v => exF ev cL_law 27 ([v0, v1, v2, v3, v4, v5, v6], []) (.int v :: st) h) := exF_o (i := (i_len 27)) rfl rfl
theorem eL_law_27 {ev : xV} {v0 v1 v2 v3 v4 v5 v6 : Option Value} {st : List Value} {h : xH} : exF ev cL_law 27 ([v0, v1, v2, v3, v4, v5, v6], []) st h = exF ev cL_law 29 ([v0, v1, v2, v3, v4, v5, v6], []) (.int (nI 7) :: st) h := exF_j (i := (i_const (.int (nI 7)) 29)) rfl rfl
theorem eL_law_29 {ev : xV} {v0 v1 v2 v3 v4 v5 v6 : Option Value} {x y : Int32} {st : List Value} {h : xH} : exF ev cL_law 29 ([v0, v1, v2, v3, v4, v5, v6], []) (.int y :: .int x :: st) h = exF ev cL_law 30 ([v0, v1, v2, v3, v4, v5, v6], []) (.int (x - y) :: st) h := exF_j (i := (i_ii (fun x y => x - y) 30)) rfl rfl
theorem eL_law_30 {ev : xV} {v0 v1 v2 v3 v4 v5 v6 : Option Value} {x y : Int32} {st : List Value} {h : xH} : exF ev cL_law 30 ([v0, v1, v2, v3, v4, v5, v6], []) (.int y :: .int x :: st) h = if y < x then exF ev cL_law 1518 ([v0, v1, v2, v3, v4, v5, v6], []) st h else exF ev cL_law 33 ([v0, v1, v2, v3, v4, v5, v6], []) st h := exF_b (i := (i_if2 (fun x y => y < x) 1518 33)) rfl rfl
theorem eL_law_33 {ev : xV} {v1 v2 v3 v4 v5 v6 : Option Value} {x : Nat} {st : List Value} {h : xH} : exF ev cL_law 33 ([some (.ref x), v1, v2, v3, v4, v5, v6], []) st h = exF ev cL_law 34 ([some (.ref x), v1, v2, v3, v4, v5, v6], []) (.ref x :: st) h := exF_j (i := (i_aload 0 34)) rfl rfl
theorem eL_law_34 {ev : xV} {v0 v1 v2 v3 v5 v6 : Option Value} {x : Int32} {st : List Value} {h : xH} : exF ev cL_law 34 ([v0, v1, v2, v3, some (.int x), v5, v6], []) st h = exF ev cL_law 36 ([v0, v1, v2, v3, some (.int x), v5, v6], []) (.int x :: st) h := exF_j (i := (i_iload 4 36)) rfl rfl
theorem eL_law_36 {ev : xV} {v0 v1 v2 v3 v4 v5 v6 : Option Value} {i : Int32} {a : Nat} {st : List Value} {h : xH} : exF ev cL_law 36 ([v0, v1, v2, v3, v4, v5, v6], []) (.int i :: .ref a :: st) h = xO (xai h 0 a i) (fun v => exF ev cL_law 37 ([v0, v1, v2, v3, v4, v5, v6], []) (.int v :: st) h) := exF_o (i := (i_ai 0 37)) rfl rfl
theorem eL_law_37 {ev : xV} {v0 v1 v2 v3 v4 v5 v6 : Option Value} {st : List Value} {h : xH} : exF ev cL_law 37 ([v0, v1, v2, v3, v4, v5, v6], []) st h = exF ev cL_law 39 ([v0, v1, v2, v3, v4, v5, v6], []) (.int (nI 63) :: st) h := exF_j (i := (i_const (.int (nI 63)) 39)) rfl rfl
theorem eL_law_39 {ev : xV} {v0 v1 v2 v3 v4 v5 v6 : Option Value} {x y : Int32} {st : List Value} {h : xH} : exF ev cL_law 39 ([v0, v1, v2, v3, v4, v5, v6], []) (.int y :: .int x :: st) h = exF ev cL_law 40 ([v0, v1, v2, v3, v4, v5, v6], []) (.int (x &&& y) :: st) h := exF_j (i := (i_ii (fun x y => x &&& y) 40)) rfl rfl
theorem eL_law_40 {ev : xV} {v0 v1 v2 v3 v4 v5 v6 : Option Value} {x : Int32} {st : List Value} {h : xH} : exF ev cL_law 40 ([v0, v1, v2, v3, v4, v5, v6], []) (.int x :: st) h = exF ev cL_law (xsw 0 [228, 375, 388, 401, 438, 463, 476, 513, 538, 563, 588, 601, 626, 639, 664, 689, 726, 751, 776, 789, 802, 839, 876, 913, 950, 987, 1052, 1065, 1078, 1115, 1128, 1141, 1154, 1167, 1180, 1193, 1206, 1231, 1244, 1293, 1385, 1434, 1487] 1512 x) ([v0, v1, v2, v3, v4, v5, v6], []) st h := exF_j (i := (i_tsw 0 [228, 375, 388, 401, 438, 463, 476, 513, 538, 563, 588, 601, 626, 639, 664, 689, 726, 751, 776, 789, 802, 839, 876, 913, 950, 987, 1052, 1065, 1078, 1115, 1128, 1141, 1154, 1167, 1180, 1193, 1206, 1231, 1244, 1293, 1385, 1434, 1487] 1512)) rfl rfl
theorem eL_law_228 {ev : xV} {v0 v2 v3 v4 v5 v6 : Option Value} {x : Nat} {st : List Value} {h : xH} : exF ev cL_law 228 ([v0, some (.ref x), v2, v3, v4, v5, v6], []) st h = exF ev cL_law 229 ([v0, some (.ref x), v2, v3, v4, v5, v6], []) (.ref x :: st) h := exF_j (i := (i_aload 1 229)) rfl rfl
theorem eL_law_229 {ev : xV} {v1 v2 v3 v4 v5 v6 : Option Value} {x : Nat} {st : List Value} {h : xH} : exF ev cL_law 229 ([some (.ref x), v1, v2, v3, v4, v5, v6], []) st h = exF ev cL_law 230 ([some (.ref x), v1, v2, v3, v4, v5, v6], []) (.ref x :: st) h := exF_j (i := (i_aload 0 230)) rfl rfl
theorem eL_law_230 {ev : xV} {v0 v1 v2 v3 v5 v6 : Option Value} {x : Int32} {st : List Value} {h : xH} : exF ev cL_law 230 ([v0, v1, v2, v3, some (.int x), v5, v6], []) st h = exF ev cL_law 232 ([v0, v1, v2, v3, some (.int x), v5, v6], []) (.int x :: st) h := exF_j (i := (i_iload 4 232)) rfl rfl
theorem eL_law_232 {ev : xV} {v0 v1 v2 v3 v4 v5 v6 : Option Value} {st : List Value} {h : xH} : exF ev cL_law 232 ([v0, v1, v2, v3, v4, v5, v6], []) st h = exF ev cL_law 233 ([v0, v1, v2, v3, v4, v5, v6], []) (.int (nI 1) :: st) h := exF_j (i := (i_const (.int (nI 1)) 233)) rfl rfl
theorem eL_law_233 {ev : xV} {v0 v1 v2 v3 v4 v5 v6 : Option Value} {x y : Int32} {st : List Value} {h : xH} : exF ev cL_law 233 ([v0, v1, v2, v3, v4, v5, v6], []) (.int y :: .int x :: st) h = exF ev cL_law 234 ([v0, v1, v2, v3, v4, v5, v6], []) (.int (x + y) :: st) h := exF_j (i := (i_ii (fun x y => x + y) 234)) rfl rfl
theorem eL_law_234 {ev : xV} {v0 v1 v2 v3 v4 v5 v6 : Option Value} {i : Int32} {a : Nat} {st : List Value} {h : xH} : exF ev cL_law 234 ([v0, v1, v2, v3, v4, v5, v6], []) (.int i :: .ref a :: st) h = xO (xai h 0 a i) (fun v => exF ev cL_law 235 ([v0, v1, v2, v3, v4, v5, v6], []) (.int v :: st) h) := exF_o (i := (i_ai 0 235)) rfl rfl
theorem eL_law_235 {ev : xV} {v0 v1 v2 v3 v4 v5 v6 : Option Value} {x : Int32} {st : List Value} {h : xH} : exF ev cL_law 235 ([v0, v1, v2, v3, v4, v5, v6], []) (.int x :: st) h = exF ev cL_law 236 ([v0, v1, v2, v3, v4, v5, v6], []) (.long x.toInt64 :: st) h := exF_j (i := (i_i2l 236)) rfl rfl
theorem eL_law_236 {ev : xV} {v0 v1 v2 v3 v4 v5 v6 : Option Value} {st : List Value} {h : xH} : exF ev cL_law 236 ([v0, v1, v2, v3, v4, v5, v6], []) st h = exF ev cL_law 238 ([v0, v1, v2, v3, v4, v5, v6], []) (.int (nI 32) :: st) h := exF_j (i := (i_const (.int (nI 32)) 238)) rfl rfl
theorem eL_law_238 {ev : xV} {v0 v1 v2 v3 v4 v5 v6 : Option Value} {x : Int64} {y : Int32} {st : List Value} {h : xH} : exF ev cL_law 238 ([v0, v1, v2, v3, v4, v5, v6], []) (.int y :: .long x :: st) h = exF ev cL_law 239 ([v0, v1, v2, v3, v4, v5, v6], []) (.long (x <<< (y.toInt64 &&& 63)) :: st) h := exF_j (i := (i_li (fun x y => x <<< (y.toInt64 &&& 63)) 239)) rfl rfl
theorem eL_law_239 {ev : xV} {v1 v2 v3 v4 v5 v6 : Option Value} {x : Nat} {st : List Value} {h : xH} : exF ev cL_law 239 ([some (.ref x), v1, v2, v3, v4, v5, v6], []) st h = exF ev cL_law 240 ([some (.ref x), v1, v2, v3, v4, v5, v6], []) (.ref x :: st) h := exF_j (i := (i_aload 0 240)) rfl rfl
theorem eL_law_240 {ev : xV} {v0 v1 v2 v3 v5 v6 : Option Value} {x : Int32} {st : List Value} {h : xH} : exF ev cL_law 240 ([v0, v1, v2, v3, some (.int x), v5, v6], []) st h = exF ev cL_law 242 ([v0, v1, v2, v3, some (.int x), v5, v6], []) (.int x :: st) h := exF_j (i := (i_iload 4 242)) rfl rfl
theorem eL_law_242 {ev : xV} {v0 v1 v2 v3 v4 v5 v6 : Option Value} {st : List Value} {h : xH} : exF ev cL_law 242 ([v0, v1, v2, v3, v4, v5, v6], []) st h = exF ev cL_law 243 ([v0, v1, v2, v3, v4, v5, v6], []) (.int (nI 2) :: st) h := exF_j (i := (i_const (.int (nI 2)) 243)) rfl rfl
theorem eL_law_243 {ev : xV} {v0 v1 v2 v3 v4 v5 v6 : Option Value} {x y : Int32} {st : List Value} {h : xH} : exF ev cL_law 243 ([v0, v1, v2, v3, v4, v5, v6], []) (.int y :: .int x :: st) h = exF ev cL_law 244 ([v0, v1, v2, v3, v4, v5, v6], []) (.int (x + y) :: st) h := exF_j (i := (i_ii (fun x y => x + y) 244)) rfl rfl
theorem eL_law_244 {ev : xV} {v0 v1 v2 v3 v4 v5 v6 : Option Value} {i : Int32} {a : Nat} {st : List Value} {h : xH} : exF ev cL_law 244 ([v0, v1, v2, v3, v4, v5, v6], []) (.int i :: .ref a :: st) h = xO (xai h 0 a i) (fun v => exF ev cL_law 245 ([v0, v1, v2, v3, v4, v5, v6], []) (.int v :: st) h) := exF_o (i := (i_ai 0 245)) rfl rfl
theorem eL_law_245 {ev : xV} {v0 v1 v2 v3 v4 v5 v6 : Option Value} {x : Int32} {st : List Value} {h : xH} : exF ev cL_law 245 ([v0, v1, v2, v3, v4, v5, v6], []) (.int x :: st) h = exF ev cL_law 246 ([v0, v1, v2, v3, v4, v5, v6], []) (.long x.toInt64 :: st) h := exF_j (i := (i_i2l 246)) rfl rfl
theorem eL_law_246 {ev : xV} {v0 v1 v2 v3 v4 v5 v6 : Option Value} {st : List Value} {h : xH} : exF ev cL_law 246 ([v0, v1, v2, v3, v4, v5, v6], []) st h = exF ev cL_law 249 ([v0, v1, v2, v3, v4, v5, v6], []) (.long (lN 4294967295) :: st) h := exF_j (i := (i_const (.long (lN 4294967295)) 249)) rfl rfl
theorem eL_law_249 {ev : xV} {v0 v1 v2 v3 v4 v5 v6 : Option Value} {x y : Int64} {st : List Value} {h : xH} : exF ev cL_law 249 ([v0, v1, v2, v3, v4, v5, v6], []) (.long y :: .long x :: st) h = exF ev cL_law 250 ([v0, v1, v2, v3, v4, v5, v6], []) (.long (x &&& y) :: st) h := exF_j (i := (i_ll (fun x y => x &&& y) 250)) rfl rfl
theorem eL_law_250 {ev : xV} {v0 v1 v2 v3 v4 v5 v6 : Option Value} {x y : Int64} {st : List Value} {h : xH} : exF ev cL_law 250 ([v0, v1, v2, v3, v4, v5, v6], []) (.long y :: .long x :: st) h = exF ev cL_law 251 ([v0, v1, v2, v3, v4, v5, v6], []) (.long (x ||| y) :: st) h := exF_j (i := (i_ll (fun x y => x ||| y) 251)) rfl rfl
theorem eL_law_251 {ev : xV} {v1 v2 v3 v4 v5 v6 : Option Value} {x : Nat} {st : List Value} {h : xH} : exF ev cL_law 251 ([some (.ref x), v1, v2, v3, v4, v5, v6], []) st h = exF ev cL_law 252 ([some (.ref x), v1, v2, v3, v4, v5, v6], []) (.ref x :: st) h := exF_j (i := (i_aload 0 252)) rfl rfl
theorem eL_law_252 {ev : xV} {v0 v1 v2 v3 v5 v6 : Option Value} {x : Int32} {st : List Value} {h : xH} : exF ev cL_law 252 ([v0, v1, v2, v3, some (.int x), v5, v6], []) st h = exF ev cL_law 254 ([v0, v1, v2, v3, some (.int x), v5, v6], []) (.int x :: st) h := exF_j (i := (i_iload 4 254)) rfl rfl
theorem eL_law_254 {ev : xV} {v0 v1 v2 v3 v4 v5 v6 : Option Value} {st : List Value} {h : xH} : exF ev cL_law 254 ([v0, v1, v2, v3, v4, v5, v6], []) st h = exF ev cL_law 255 ([v0, v1, v2, v3, v4, v5, v6], []) (.int (nI 3) :: st) h := exF_j (i := (i_const (.int (nI 3)) 255)) rfl rfl
theorem eL_law_255 {ev : xV} {v0 v1 v2 v3 v4 v5 v6 : Option Value} {x y : Int32} {st : List Value} {h : xH} : exF ev cL_law 255 ([v0, v1, v2, v3, v4, v5, v6], []) (.int y :: .int x :: st) h = exF ev cL_law 256 ([v0, v1, v2, v3, v4, v5, v6], []) (.int (x + y) :: st) h := exF_j (i := (i_ii (fun x y => x + y) 256)) rfl rfl
theorem eL_law_256 {ev : xV} {v0 v1 v2 v3 v4 v5 v6 : Option Value} {i : Int32} {a : Nat} {st : List Value} {h : xH} : exF ev cL_law 256 ([v0, v1, v2, v3, v4, v5, v6], []) (.int i :: .ref a :: st) h = xO (xai h 0 a i) (fun v => exF ev cL_law 257 ([v0, v1, v2, v3, v4, v5, v6], []) (.int v :: st) h) := exF_o (i := (i_ai 0 257)) rfl rfl
theorem eL_law_257 {ev : xV} {v0 v1 v2 v3 v4 v5 v6 : Option Value} {x : Int32} {st : List Value} {h : xH} : exF ev cL_law 257 ([v0, v1, v2, v3, v4, v5, v6], []) (.int x :: st) h = exF ev cL_law 258 ([v0, v1, v2, v3, v4, v5, v6], []) (.long x.toInt64 :: st) h := exF_j (i := (i_i2l 258)) rfl rfl
theorem eL_law_258 {ev : xV} {v0 v1 v2 v3 v4 v5 v6 : Option Value} {st : List Value} {h : xH} : exF ev cL_law 258 ([v0, v1, v2, v3, v4, v5, v6], []) st h = exF ev cL_law 260 ([v0, v1, v2, v3, v4, v5, v6], []) (.int (nI 32) :: st) h := exF_j (i := (i_const (.int (nI 32)) 260)) rfl rfl
theorem eL_law_260 {ev : xV} {v0 v1 v2 v3 v4 v5 v6 : Option Value} {x : Int64} {y : Int32} {st : List Value} {h : xH} : exF ev cL_law 260 ([v0, v1, v2, v3, v4, v5, v6], []) (.int y :: .long x :: st) h = exF ev cL_law 261 ([v0, v1, v2, v3, v4, v5, v6], []) (.long (x <<< (y.toInt64 &&& 63)) :: st) h := exF_j (i := (i_li (fun x y => x <<< (y.toInt64 &&& 63)) 261)) rfl rfl
theorem eL_law_261 {ev : xV} {v1 v2 v3 v4 v5 v6 : Option Value} {x : Nat} {st : List Value} {h : xH} : exF ev cL_law 261 ([some (.ref x), v1, v2, v3, v4, v5, v6], []) st h = exF ev cL_law 262 ([some (.ref x), v1, v2, v3, v4, v5, v6], []) (.ref x :: st) h := exF_j (i := (i_aload 0 262)) rfl rfl
theorem eL_law_262 {ev : xV} {v0 v1 v2 v3 v5 v6 : Option Value} {x : Int32} {st : List Value} {h : xH} : exF ev cL_law 262 ([v0, v1, v2, v3, some (.int x), v5, v6], []) st h = exF ev cL_law 264 ([v0, v1, v2, v3, some (.int x), v5, v6], []) (.int x :: st) h := exF_j (i := (i_iload 4 264)) rfl rfl
theorem eL_law_264 {ev : xV} {v0 v1 v2 v3 v4 v5 v6 : Option Value} {st : List Value} {h : xH} : exF ev cL_law 264 ([v0, v1, v2, v3, v4, v5, v6], []) st h = exF ev cL_law 265 ([v0, v1, v2, v3, v4, v5, v6], []) (.int (nI 4) :: st) h := exF_j (i := (i_const (.int (nI 4)) 265)) rfl rfl
theorem eL_law_265 {ev : xV} {v0 v1 v2 v3 v4 v5 v6 : Option Value} {x y : Int32} {st : List Value} {h : xH} : exF ev cL_law 265 ([v0, v1, v2, v3, v4, v5, v6], []) (.int y :: .int x :: st) h = exF ev cL_law 266 ([v0, v1, v2, v3, v4, v5, v6], []) (.int (x + y) :: st) h := exF_j (i := (i_ii (fun x y => x + y) 266)) rfl rfl
theorem eL_law_266 {ev : xV} {v0 v1 v2 v3 v4 v5 v6 : Option Value} {i : Int32} {a : Nat} {st : List Value} {h : xH} : exF ev cL_law 266 ([v0, v1, v2, v3, v4, v5, v6], []) (.int i :: .ref a :: st) h = xO (xai h 0 a i) (fun v => exF ev cL_law 267 ([v0, v1, v2, v3, v4, v5, v6], []) (.int v :: st) h) := exF_o (i := (i_ai 0 267)) rfl rfl
theorem eL_law_267 {ev : xV} {v0 v1 v2 v3 v4 v5 v6 : Option Value} {x : Int32} {st : List Value} {h : xH} : exF ev cL_law 267 ([v0, v1, v2, v3, v4, v5, v6], []) (.int x :: st) h = exF ev cL_law 268 ([v0, v1, v2, v3, v4, v5, v6], []) (.long x.toInt64 :: st) h := exF_j (i := (i_i2l 268)) rfl rfl
theorem eL_law_268 {ev : xV} {v0 v1 v2 v3 v4 v5 v6 : Option Value} {st : List Value} {h : xH} : exF ev cL_law 268 ([v0, v1, v2, v3, v4, v5, v6], []) st h = exF ev cL_law 271 ([v0, v1, v2, v3, v4, v5, v6], []) (.long (lN 4294967295) :: st) h := exF_j (i := (i_const (.long (lN 4294967295)) 271)) rfl rfl
theorem eL_law_271 {ev : xV} {v0 v1 v2 v3 v4 v5 v6 : Option Value} {x y : Int64} {st : List Value} {h : xH} : exF ev cL_law 271 ([v0, v1, v2, v3, v4, v5, v6], []) (.long y :: .long x :: st) h = exF ev cL_law 272 ([v0, v1, v2, v3, v4, v5, v6], []) (.long (x &&& y) :: st) h := exF_j (i := (i_ll (fun x y => x &&& y) 272)) rfl rfl
theorem eL_law_272 {ev : xV} {v0 v1 v2 v3 v4 v5 v6 : Option Value} {x y : Int64} {st : List Value} {h : xH} : exF ev cL_law 272 ([v0, v1, v2, v3, v4, v5, v6], []) (.long y :: .long x :: st) h = exF ev cL_law 273 ([v0, v1, v2, v3, v4, v5, v6], []) (.long (x ||| y) :: st) h := exF_j (i := (i_ll (fun x y => x ||| y) 273)) rfl rfl
theorem eL_law_273 {ev : xV} {v1 v2 v3 v4 v5 v6 : Option Value} {x : Nat} {st : List Value} {h : xH} : exF ev cL_law 273 ([some (.ref x), v1, v2, v3, v4, v5, v6], []) st h = exF ev cL_law 274 ([some (.ref x), v1, v2, v3, v4, v5, v6], []) (.ref x :: st) h := exF_j (i := (i_aload 0 274)) rfl rfl
theorem eL_law_274 {ev : xV} {v0 v1 v2 v3 v5 v6 : Option Value} {x : Int32} {st : List Value} {h : xH} : exF ev cL_law 274 ([v0, v1, v2, v3, some (.int x), v5, v6], []) st h = exF ev cL_law 276 ([v0, v1, v2, v3, some (.int x), v5, v6], []) (.int x :: st) h := exF_j (i := (i_iload 4 276)) rfl rfl
theorem eL_law_276 {ev : xV} {v0 v1 v2 v3 v4 v5 v6 : Option Value} {st : List Value} {h : xH} : exF ev cL_law 276 ([v0, v1, v2, v3, v4, v5, v6], []) st h = exF ev cL_law 277 ([v0, v1, v2, v3, v4, v5, v6], []) (.int (nI 5) :: st) h := exF_j (i := (i_const (.int (nI 5)) 277)) rfl rfl
theorem eL_law_277 {ev : xV} {v0 v1 v2 v3 v4 v5 v6 : Option Value} {x y : Int32} {st : List Value} {h : xH} : exF ev cL_law 277 ([v0, v1, v2, v3, v4, v5, v6], []) (.int y :: .int x :: st) h = exF ev cL_law 278 ([v0, v1, v2, v3, v4, v5, v6], []) (.int (x + y) :: st) h := exF_j (i := (i_ii (fun x y => x + y) 278)) rfl rfl
theorem eL_law_278 {ev : xV} {v0 v1 v2 v3 v4 v5 v6 : Option Value} {i : Int32} {a : Nat} {st : List Value} {h : xH} : exF ev cL_law 278 ([v0, v1, v2, v3, v4, v5, v6], []) (.int i :: .ref a :: st) h = xO (xai h 0 a i) (fun v => exF ev cL_law 279 ([v0, v1, v2, v3, v4, v5, v6], []) (.int v :: st) h) := exF_o (i := (i_ai 0 279)) rfl rfl
theorem eL_law_279 {ev : xV} {v0 v1 v2 v3 v4 v5 v6 : Option Value} {x : Int32} {st : List Value} {h : xH} : exF ev cL_law 279 ([v0, v1, v2, v3, v4, v5, v6], []) (.int x :: st) h = exF ev cL_law 280 ([v0, v1, v2, v3, v4, v5, v6], []) (.long x.toInt64 :: st) h := exF_j (i := (i_i2l 280)) rfl rfl
theorem eL_law_280 {ev : xV} {v0 v1 v2 v3 v4 v5 v6 : Option Value} {st : List Value} {h : xH} : exF ev cL_law 280 ([v0, v1, v2, v3, v4, v5, v6], []) st h = exF ev cL_law 282 ([v0, v1, v2, v3, v4, v5, v6], []) (.int (nI 32) :: st) h := exF_j (i := (i_const (.int (nI 32)) 282)) rfl rfl
theorem eL_law_282 {ev : xV} {v0 v1 v2 v3 v4 v5 v6 : Option Value} {x : Int64} {y : Int32} {st : List Value} {h : xH} : exF ev cL_law 282 ([v0, v1, v2, v3, v4, v5, v6], []) (.int y :: .long x :: st) h = exF ev cL_law 283 ([v0, v1, v2, v3, v4, v5, v6], []) (.long (x <<< (y.toInt64 &&& 63)) :: st) h := exF_j (i := (i_li (fun x y => x <<< (y.toInt64 &&& 63)) 283)) rfl rfl
theorem eL_law_283 {ev : xV} {v1 v2 v3 v4 v5 v6 : Option Value} {x : Nat} {st : List Value} {h : xH} : exF ev cL_law 283 ([some (.ref x), v1, v2, v3, v4, v5, v6], []) st h = exF ev cL_law 284 ([some (.ref x), v1, v2, v3, v4, v5, v6], []) (.ref x :: st) h := exF_j (i := (i_aload 0 284)) rfl rfl
theorem eL_law_284 {ev : xV} {v0 v1 v2 v3 v5 v6 : Option Value} {x : Int32} {st : List Value} {h : xH} : exF ev cL_law 284 ([v0, v1, v2, v3, some (.int x), v5, v6], []) st h = exF ev cL_law 286 ([v0, v1, v2, v3, some (.int x), v5, v6], []) (.int x :: st) h := exF_j (i := (i_iload 4 286)) rfl rfl
theorem eL_law_286 {ev : xV} {v0 v1 v2 v3 v4 v5 v6 : Option Value} {st : List Value} {h : xH} : exF ev cL_law 286 ([v0, v1, v2, v3, v4, v5, v6], []) st h = exF ev cL_law 288 ([v0, v1, v2, v3, v4, v5, v6], []) (.int (nI 6) :: st) h := exF_j (i := (i_const (.int (nI 6)) 288)) rfl rfl
theorem eL_law_288 {ev : xV} {v0 v1 v2 v3 v4 v5 v6 : Option Value} {x y : Int32} {st : List Value} {h : xH} : exF ev cL_law 288 ([v0, v1, v2, v3, v4, v5, v6], []) (.int y :: .int x :: st) h = exF ev cL_law 289 ([v0, v1, v2, v3, v4, v5, v6], []) (.int (x + y) :: st) h := exF_j (i := (i_ii (fun x y => x + y) 289)) rfl rfl
theorem eL_law_289 {ev : xV} {v0 v1 v2 v3 v4 v5 v6 : Option Value} {i : Int32} {a : Nat} {st : List Value} {h : xH} : exF ev cL_law 289 ([v0, v1, v2, v3, v4, v5, v6], []) (.int i :: .ref a :: st) h = xO (xai h 0 a i) (fun v => exF ev cL_law 290 ([v0, v1, v2, v3, v4, v5, v6], []) (.int v :: st) h) := exF_o (i := (i_ai 0 290)) rfl rfl
theorem eL_law_290 {ev : xV} {v0 v1 v2 v3 v4 v5 v6 : Option Value} {x : Int32} {st : List Value} {h : xH} : exF ev cL_law 290 ([v0, v1, v2, v3, v4, v5, v6], []) (.int x :: st) h = exF ev cL_law 291 ([v0, v1, v2, v3, v4, v5, v6], []) (.long x.toInt64 :: st) h := exF_j (i := (i_i2l 291)) rfl rfl
theorem eL_law_291 {ev : xV} {v0 v1 v2 v3 v4 v5 v6 : Option Value} {st : List Value} {h : xH} : exF ev cL_law 291 ([v0, v1, v2, v3, v4, v5, v6], []) st h = exF ev cL_law 294 ([v0, v1, v2, v3, v4, v5, v6], []) (.long (lN 4294967295) :: st) h := exF_j (i := (i_const (.long (lN 4294967295)) 294)) rfl rfl
theorem eL_law_294 {ev : xV} {v0 v1 v2 v3 v4 v5 v6 : Option Value} {x y : Int64} {st : List Value} {h : xH} : exF ev cL_law 294 ([v0, v1, v2, v3, v4, v5, v6], []) (.long y :: .long x :: st) h = exF ev cL_law 295 ([v0, v1, v2, v3, v4, v5, v6], []) (.long (x &&& y) :: st) h := exF_j (i := (i_ll (fun x y => x &&& y) 295)) rfl rfl
theorem eL_law_295 {ev : xV} {v0 v1 v2 v3 v4 v5 v6 : Option Value} {x y : Int64} {st : List Value} {h : xH} : exF ev cL_law 295 ([v0, v1, v2, v3, v4, v5, v6], []) (.long y :: .long x :: st) h = exF ev cL_law 296 ([v0, v1, v2, v3, v4, v5, v6], []) (.long (x ||| y) :: st) h := exF_j (i := (i_ll (fun x y => x ||| y) 296)) rfl rfl
theorem eL_law_296 {ev : xV} {v0 v1 v2 v3 v4 v5 v6 : Option Value} {a0 : Value} {a1 : Value} {a2 : Value} {a : Nat} {h : xH} : exF ev cL_law 296 ([v0, v1, v2, v3, v4, v5, v6], []) [a2, a1, a0, .ref a] h = xO (xck h a 0) (fun _ => xB (ev 89 [.ref a, a0, a1, a2] h) (fun v h => exF ev cL_law 299 ([v0, v1, v2, v3, v4, v5, v6], []) [v] h)) := exF_cd (i := (i_cv 0 89 3 299)) rfl rfl
theorem eL_law_299 {ev : xV} {v0 v1 v3 v4 v5 v6 : Option Value} {x : Nat} {st : List Value} {h : xH} : exF ev cL_law 299 ([v0, v1, some (.ref x), v3, v4, v5, v6], []) st h = exF ev cL_law 300 ([v0, v1, some (.ref x), v3, v4, v5, v6], []) (.ref x :: st) h := exF_j (i := (i_aload 2 300)) rfl rfl
theorem eL_law_300 {ev : xV} {v1 v2 v3 v4 v5 v6 : Option Value} {x : Nat} {st : List Value} {h : xH} : exF ev cL_law 300 ([some (.ref x), v1, v2, v3, v4, v5, v6], []) st h = exF ev cL_law 301 ([some (.ref x), v1, v2, v3, v4, v5, v6], []) (.ref x :: st) h := exF_j (i := (i_aload 0 301)) rfl rfl
theorem eL_law_301 {ev : xV} {v0 v1 v2 v3 v5 v6 : Option Value} {x : Int32} {st : List Value} {h : xH} : exF ev cL_law 301 ([v0, v1, v2, v3, some (.int x), v5, v6], []) st h = exF ev cL_law 303 ([v0, v1, v2, v3, some (.int x), v5, v6], []) (.int x :: st) h := exF_j (i := (i_iload 4 303)) rfl rfl
theorem eL_law_303 {ev : xV} {v0 v1 v2 v3 v4 v5 v6 : Option Value} {st : List Value} {h : xH} : exF ev cL_law 303 ([v0, v1, v2, v3, v4, v5, v6], []) st h = exF ev cL_law 304 ([v0, v1, v2, v3, v4, v5, v6], []) (.int (nI 1) :: st) h := exF_j (i := (i_const (.int (nI 1)) 304)) rfl rfl
theorem eL_law_304 {ev : xV} {v0 v1 v2 v3 v4 v5 v6 : Option Value} {x y : Int32} {st : List Value} {h : xH} : exF ev cL_law 304 ([v0, v1, v2, v3, v4, v5, v6], []) (.int y :: .int x :: st) h = exF ev cL_law 305 ([v0, v1, v2, v3, v4, v5, v6], []) (.int (x + y) :: st) h := exF_j (i := (i_ii (fun x y => x + y) 305)) rfl rfl
theorem eL_law_305 {ev : xV} {v0 v1 v2 v3 v4 v5 v6 : Option Value} {i : Int32} {a : Nat} {st : List Value} {h : xH} : exF ev cL_law 305 ([v0, v1, v2, v3, v4, v5, v6], []) (.int i :: .ref a :: st) h = xO (xai h 0 a i) (fun v => exF ev cL_law 306 ([v0, v1, v2, v3, v4, v5, v6], []) (.int v :: st) h) := exF_o (i := (i_ai 0 306)) rfl rfl
theorem eL_law_306 {ev : xV} {v0 v1 v2 v3 v4 v5 v6 : Option Value} {x : Int32} {st : List Value} {h : xH} : exF ev cL_law 306 ([v0, v1, v2, v3, v4, v5, v6], []) (.int x :: st) h = exF ev cL_law 307 ([v0, v1, v2, v3, v4, v5, v6], []) (.long x.toInt64 :: st) h := exF_j (i := (i_i2l 307)) rfl rfl
theorem eL_law_307 {ev : xV} {v0 v1 v2 v3 v4 v5 v6 : Option Value} {st : List Value} {h : xH} : exF ev cL_law 307 ([v0, v1, v2, v3, v4, v5, v6], []) st h = exF ev cL_law 309 ([v0, v1, v2, v3, v4, v5, v6], []) (.int (nI 32) :: st) h := exF_j (i := (i_const (.int (nI 32)) 309)) rfl rfl
theorem eL_law_309 {ev : xV} {v0 v1 v2 v3 v4 v5 v6 : Option Value} {x : Int64} {y : Int32} {st : List Value} {h : xH} : exF ev cL_law 309 ([v0, v1, v2, v3, v4, v5, v6], []) (.int y :: .long x :: st) h = exF ev cL_law 310 ([v0, v1, v2, v3, v4, v5, v6], []) (.long (x <<< (y.toInt64 &&& 63)) :: st) h := exF_j (i := (i_li (fun x y => x <<< (y.toInt64 &&& 63)) 310)) rfl rfl
theorem eL_law_310 {ev : xV} {v1 v2 v3 v4 v5 v6 : Option Value} {x : Nat} {st : List Value} {h : xH} : exF ev cL_law 310 ([some (.ref x), v1, v2, v3, v4, v5, v6], []) st h = exF ev cL_law 311 ([some (.ref x), v1, v2, v3, v4, v5, v6], []) (.ref x :: st) h := exF_j (i := (i_aload 0 311)) rfl rfl
theorem eL_law_311 {ev : xV} {v0 v1 v2 v3 v5 v6 : Option Value} {x : Int32} {st : List Value} {h : xH} : exF ev cL_law 311 ([v0, v1, v2, v3, some (.int x), v5, v6], []) st h = exF ev cL_law 313 ([v0, v1, v2, v3, some (.int x), v5, v6], []) (.int x :: st) h := exF_j (i := (i_iload 4 313)) rfl rfl
theorem eL_law_313 {ev : xV} {v0 v1 v2 v3 v4 v5 v6 : Option Value} {st : List Value} {h : xH} : exF ev cL_law 313 ([v0, v1, v2, v3, v4, v5, v6], []) st h = exF ev cL_law 314 ([v0, v1, v2, v3, v4, v5, v6], []) (.int (nI 2) :: st) h := exF_j (i := (i_const (.int (nI 2)) 314)) rfl rfl
theorem eL_law_314 {ev : xV} {v0 v1 v2 v3 v4 v5 v6 : Option Value} {x y : Int32} {st : List Value} {h : xH} : exF ev cL_law 314 ([v0, v1, v2, v3, v4, v5, v6], []) (.int y :: .int x :: st) h = exF ev cL_law 315 ([v0, v1, v2, v3, v4, v5, v6], []) (.int (x + y) :: st) h := exF_j (i := (i_ii (fun x y => x + y) 315)) rfl rfl
theorem eL_law_315 {ev : xV} {v0 v1 v2 v3 v4 v5 v6 : Option Value} {i : Int32} {a : Nat} {st : List Value} {h : xH} : exF ev cL_law 315 ([v0, v1, v2, v3, v4, v5, v6], []) (.int i :: .ref a :: st) h = xO (xai h 0 a i) (fun v => exF ev cL_law 316 ([v0, v1, v2, v3, v4, v5, v6], []) (.int v :: st) h) := exF_o (i := (i_ai 0 316)) rfl rfl
theorem eL_law_316 {ev : xV} {v0 v1 v2 v3 v4 v5 v6 : Option Value} {x : Int32} {st : List Value} {h : xH} : exF ev cL_law 316 ([v0, v1, v2, v3, v4, v5, v6], []) (.int x :: st) h = exF ev cL_law 317 ([v0, v1, v2, v3, v4, v5, v6], []) (.long x.toInt64 :: st) h := exF_j (i := (i_i2l 317)) rfl rfl
theorem eL_law_317 {ev : xV} {v0 v1 v2 v3 v4 v5 v6 : Option Value} {st : List Value} {h : xH} : exF ev cL_law 317 ([v0, v1, v2, v3, v4, v5, v6], []) st h = exF ev cL_law 320 ([v0, v1, v2, v3, v4, v5, v6], []) (.long (lN 4294967295) :: st) h := exF_j (i := (i_const (.long (lN 4294967295)) 320)) rfl rfl
theorem eL_law_320 {ev : xV} {v0 v1 v2 v3 v4 v5 v6 : Option Value} {x y : Int64} {st : List Value} {h : xH} : exF ev cL_law 320 ([v0, v1, v2, v3, v4, v5, v6], []) (.long y :: .long x :: st) h = exF ev cL_law 321 ([v0, v1, v2, v3, v4, v5, v6], []) (.long (x &&& y) :: st) h := exF_j (i := (i_ll (fun x y => x &&& y) 321)) rfl rfl
theorem eL_law_321 {ev : xV} {v0 v1 v2 v3 v4 v5 v6 : Option Value} {x y : Int64} {st : List Value} {h : xH} : exF ev cL_law 321 ([v0, v1, v2, v3, v4, v5, v6], []) (.long y :: .long x :: st) h = exF ev cL_law 322 ([v0, v1, v2, v3, v4, v5, v6], []) (.long (x ||| y) :: st) h := exF_j (i := (i_ll (fun x y => x ||| y) 322)) rfl rfl
theorem eL_law_322 {ev : xV} {v1 v2 v3 v4 v5 v6 : Option Value} {x : Nat} {st : List Value} {h : xH} : exF ev cL_law 322 ([some (.ref x), v1, v2, v3, v4, v5, v6], []) st h = exF ev cL_law 323 ([some (.ref x), v1, v2, v3, v4, v5, v6], []) (.ref x :: st) h := exF_j (i := (i_aload 0 323)) rfl rfl
theorem eL_law_323 {ev : xV} {v0 v1 v2 v3 v5 v6 : Option Value} {x : Int32} {st : List Value} {h : xH} : exF ev cL_law 323 ([v0, v1, v2, v3, some (.int x), v5, v6], []) st h = exF ev cL_law 325 ([v0, v1, v2, v3, some (.int x), v5, v6], []) (.int x :: st) h := exF_j (i := (i_iload 4 325)) rfl rfl
theorem eL_law_325 {ev : xV} {v0 v1 v2 v3 v4 v5 v6 : Option Value} {st : List Value} {h : xH} : exF ev cL_law 325 ([v0, v1, v2, v3, v4, v5, v6], []) st h = exF ev cL_law 326 ([v0, v1, v2, v3, v4, v5, v6], []) (.int (nI 3) :: st) h := exF_j (i := (i_const (.int (nI 3)) 326)) rfl rfl
theorem eL_law_326 {ev : xV} {v0 v1 v2 v3 v4 v5 v6 : Option Value} {x y : Int32} {st : List Value} {h : xH} : exF ev cL_law 326 ([v0, v1, v2, v3, v4, v5, v6], []) (.int y :: .int x :: st) h = exF ev cL_law 327 ([v0, v1, v2, v3, v4, v5, v6], []) (.int (x + y) :: st) h := exF_j (i := (i_ii (fun x y => x + y) 327)) rfl rfl
theorem eL_law_327 {ev : xV} {v0 v1 v2 v3 v4 v5 v6 : Option Value} {i : Int32} {a : Nat} {st : List Value} {h : xH} : exF ev cL_law 327 ([v0, v1, v2, v3, v4, v5, v6], []) (.int i :: .ref a :: st) h = xO (xai h 0 a i) (fun v => exF ev cL_law 328 ([v0, v1, v2, v3, v4, v5, v6], []) (.int v :: st) h) := exF_o (i := (i_ai 0 328)) rfl rfl
theorem eL_law_328 {ev : xV} {v0 v1 v2 v3 v4 v5 v6 : Option Value} {x : Int32} {st : List Value} {h : xH} : exF ev cL_law 328 ([v0, v1, v2, v3, v4, v5, v6], []) (.int x :: st) h = exF ev cL_law 329 ([v0, v1, v2, v3, v4, v5, v6], []) (.long x.toInt64 :: st) h := exF_j (i := (i_i2l 329)) rfl rfl
theorem eL_law_329 {ev : xV} {v0 v1 v2 v3 v4 v5 v6 : Option Value} {st : List Value} {h : xH} : exF ev cL_law 329 ([v0, v1, v2, v3, v4, v5, v6], []) st h = exF ev cL_law 331 ([v0, v1, v2, v3, v4, v5, v6], []) (.int (nI 32) :: st) h := exF_j (i := (i_const (.int (nI 32)) 331)) rfl rfl
theorem eL_law_331 {ev : xV} {v0 v1 v2 v3 v4 v5 v6 : Option Value} {x : Int64} {y : Int32} {st : List Value} {h : xH} : exF ev cL_law 331 ([v0, v1, v2, v3, v4, v5, v6], []) (.int y :: .long x :: st) h = exF ev cL_law 332 ([v0, v1, v2, v3, v4, v5, v6], []) (.long (x <<< (y.toInt64 &&& 63)) :: st) h := exF_j (i := (i_li (fun x y => x <<< (y.toInt64 &&& 63)) 332)) rfl rfl
theorem eL_law_332 {ev : xV} {v1 v2 v3 v4 v5 v6 : Option Value} {x : Nat} {st : List Value} {h : xH} : exF ev cL_law 332 ([some (.ref x), v1, v2, v3, v4, v5, v6], []) st h = exF ev cL_law 333 ([some (.ref x), v1, v2, v3, v4, v5, v6], []) (.ref x :: st) h := exF_j (i := (i_aload 0 333)) rfl rfl
theorem eL_law_333 {ev : xV} {v0 v1 v2 v3 v5 v6 : Option Value} {x : Int32} {st : List Value} {h : xH} : exF ev cL_law 333 ([v0, v1, v2, v3, some (.int x), v5, v6], []) st h = exF ev cL_law 335 ([v0, v1, v2, v3, some (.int x), v5, v6], []) (.int x :: st) h := exF_j (i := (i_iload 4 335)) rfl rfl
theorem eL_law_335 {ev : xV} {v0 v1 v2 v3 v4 v5 v6 : Option Value} {st : List Value} {h : xH} : exF ev cL_law 335 ([v0, v1, v2, v3, v4, v5, v6], []) st h = exF ev cL_law 336 ([v0, v1, v2, v3, v4, v5, v6], []) (.int (nI 4) :: st) h := exF_j (i := (i_const (.int (nI 4)) 336)) rfl rfl
theorem eL_law_336 {ev : xV} {v0 v1 v2 v3 v4 v5 v6 : Option Value} {x y : Int32} {st : List Value} {h : xH} : exF ev cL_law 336 ([v0, v1, v2, v3, v4, v5, v6], []) (.int y :: .int x :: st) h = exF ev cL_law 337 ([v0, v1, v2, v3, v4, v5, v6], []) (.int (x + y) :: st) h := exF_j (i := (i_ii (fun x y => x + y) 337)) rfl rfl
theorem eL_law_337 {ev : xV} {v0 v1 v2 v3 v4 v5 v6 : Option Value} {i : Int32} {a : Nat} {st : List Value} {h : xH} : exF ev cL_law 337 ([v0, v1, v2, v3, v4, v5, v6], []) (.int i :: .ref a :: st) h = xO (xai h 0 a i) (fun v => exF ev cL_law 338 ([v0, v1, v2, v3, v4, v5, v6], []) (.int v :: st) h) := exF_o (i := (i_ai 0 338)) rfl rfl
theorem eL_law_338 {ev : xV} {v0 v1 v2 v3 v4 v5 v6 : Option Value} {x : Int32} {st : List Value} {h : xH} : exF ev cL_law 338 ([v0, v1, v2, v3, v4, v5, v6], []) (.int x :: st) h = exF ev cL_law 339 ([v0, v1, v2, v3, v4, v5, v6], []) (.long x.toInt64 :: st) h := exF_j (i := (i_i2l 339)) rfl rfl
theorem eL_law_339 {ev : xV} {v0 v1 v2 v3 v4 v5 v6 : Option Value} {st : List Value} {h : xH} : exF ev cL_law 339 ([v0, v1, v2, v3, v4, v5, v6], []) st h = exF ev cL_law 342 ([v0, v1, v2, v3, v4, v5, v6], []) (.long (lN 4294967295) :: st) h := exF_j (i := (i_const (.long (lN 4294967295)) 342)) rfl rfl
theorem eL_law_342 {ev : xV} {v0 v1 v2 v3 v4 v5 v6 : Option Value} {x y : Int64} {st : List Value} {h : xH} : exF ev cL_law 342 ([v0, v1, v2, v3, v4, v5, v6], []) (.long y :: .long x :: st) h = exF ev cL_law 343 ([v0, v1, v2, v3, v4, v5, v6], []) (.long (x &&& y) :: st) h := exF_j (i := (i_ll (fun x y => x &&& y) 343)) rfl rfl
theorem eL_law_343 {ev : xV} {v0 v1 v2 v3 v4 v5 v6 : Option Value} {x y : Int64} {st : List Value} {h : xH} : exF ev cL_law 343 ([v0, v1, v2, v3, v4, v5, v6], []) (.long y :: .long x :: st) h = exF ev cL_law 344 ([v0, v1, v2, v3, v4, v5, v6], []) (.long (x ||| y) :: st) h := exF_j (i := (i_ll (fun x y => x ||| y) 344)) rfl rfl
theorem eL_law_344 {ev : xV} {v1 v2 v3 v4 v5 v6 : Option Value} {x : Nat} {st : List Value} {h : xH} : exF ev cL_law 344 ([some (.ref x), v1, v2, v3, v4, v5, v6], []) st h = exF ev cL_law 345 ([some (.ref x), v1, v2, v3, v4, v5, v6], []) (.ref x :: st) h := exF_j (i := (i_aload 0 345)) rfl rfl
theorem eL_law_345 {ev : xV} {v0 v1 v2 v3 v5 v6 : Option Value} {x : Int32} {st : List Value} {h : xH} : exF ev cL_law 345 ([v0, v1, v2, v3, some (.int x), v5, v6], []) st h = exF ev cL_law 347 ([v0, v1, v2, v3, some (.int x), v5, v6], []) (.int x :: st) h := exF_j (i := (i_iload 4 347)) rfl rfl
theorem eL_law_347 {ev : xV} {v0 v1 v2 v3 v4 v5 v6 : Option Value} {st : List Value} {h : xH} : exF ev cL_law 347 ([v0, v1, v2, v3, v4, v5, v6], []) st h = exF ev cL_law 348 ([v0, v1, v2, v3, v4, v5, v6], []) (.int (nI 5) :: st) h := exF_j (i := (i_const (.int (nI 5)) 348)) rfl rfl
theorem eL_law_348 {ev : xV} {v0 v1 v2 v3 v4 v5 v6 : Option Value} {x y : Int32} {st : List Value} {h : xH} : exF ev cL_law 348 ([v0, v1, v2, v3, v4, v5, v6], []) (.int y :: .int x :: st) h = exF ev cL_law 349 ([v0, v1, v2, v3, v4, v5, v6], []) (.int (x + y) :: st) h := exF_j (i := (i_ii (fun x y => x + y) 349)) rfl rfl
theorem eL_law_349 {ev : xV} {v0 v1 v2 v3 v4 v5 v6 : Option Value} {i : Int32} {a : Nat} {st : List Value} {h : xH} : exF ev cL_law 349 ([v0, v1, v2, v3, v4, v5, v6], []) (.int i :: .ref a :: st) h = xO (xai h 0 a i) (fun v => exF ev cL_law 350 ([v0, v1, v2, v3, v4, v5, v6], []) (.int v :: st) h) := exF_o (i := (i_ai 0 350)) rfl rfl
theorem eL_law_350 {ev : xV} {v0 v1 v2 v3 v4 v5 v6 : Option Value} {x : Int32} {st : List Value} {h : xH} : exF ev cL_law 350 ([v0, v1, v2, v3, v4, v5, v6], []) (.int x :: st) h = exF ev cL_law 351 ([v0, v1, v2, v3, v4, v5, v6], []) (.long x.toInt64 :: st) h := exF_j (i := (i_i2l 351)) rfl rfl
theorem eL_law_351 {ev : xV} {v0 v1 v2 v3 v4 v5 v6 : Option Value} {st : List Value} {h : xH} : exF ev cL_law 351 ([v0, v1, v2, v3, v4, v5, v6], []) st h = exF ev cL_law 353 ([v0, v1, v2, v3, v4, v5, v6], []) (.int (nI 32) :: st) h := exF_j (i := (i_const (.int (nI 32)) 353)) rfl rfl
theorem eL_law_353 {ev : xV} {v0 v1 v2 v3 v4 v5 v6 : Option Value} {x : Int64} {y : Int32} {st : List Value} {h : xH} : exF ev cL_law 353 ([v0, v1, v2, v3, v4, v5, v6], []) (.int y :: .long x :: st) h = exF ev cL_law 354 ([v0, v1, v2, v3, v4, v5, v6], []) (.long (x <<< (y.toInt64 &&& 63)) :: st) h := exF_j (i := (i_li (fun x y => x <<< (y.toInt64 &&& 63)) 354)) rfl rfl
theorem eL_law_354 {ev : xV} {v1 v2 v3 v4 v5 v6 : Option Value} {x : Nat} {st : List Value} {h : xH} : exF ev cL_law 354 ([some (.ref x), v1, v2, v3, v4, v5, v6], []) st h = exF ev cL_law 355 ([some (.ref x), v1, v2, v3, v4, v5, v6], []) (.ref x :: st) h := exF_j (i := (i_aload 0 355)) rfl rfl
theorem eL_law_355 {ev : xV} {v0 v1 v2 v3 v5 v6 : Option Value} {x : Int32} {st : List Value} {h : xH} : exF ev cL_law 355 ([v0, v1, v2, v3, some (.int x), v5, v6], []) st h = exF ev cL_law 357 ([v0, v1, v2, v3, some (.int x), v5, v6], []) (.int x :: st) h := exF_j (i := (i_iload 4 357)) rfl rfl
theorem eL_law_357 {ev : xV} {v0 v1 v2 v3 v4 v5 v6 : Option Value} {st : List Value} {h : xH} : exF ev cL_law 357 ([v0, v1, v2, v3, v4, v5, v6], []) st h = exF ev cL_law 359 ([v0, v1, v2, v3, v4, v5, v6], []) (.int (nI 6) :: st) h := exF_j (i := (i_const (.int (nI 6)) 359)) rfl rfl
theorem eL_law_359 {ev : xV} {v0 v1 v2 v3 v4 v5 v6 : Option Value} {x y : Int32} {st : List Value} {h : xH} : exF ev cL_law 359 ([v0, v1, v2, v3, v4, v5, v6], []) (.int y :: .int x :: st) h = exF ev cL_law 360 ([v0, v1, v2, v3, v4, v5, v6], []) (.int (x + y) :: st) h := exF_j (i := (i_ii (fun x y => x + y) 360)) rfl rfl
theorem eL_law_360 {ev : xV} {v0 v1 v2 v3 v4 v5 v6 : Option Value} {i : Int32} {a : Nat} {st : List Value} {h : xH} : exF ev cL_law 360 ([v0, v1, v2, v3, v4, v5, v6], []) (.int i :: .ref a :: st) h = xO (xai h 0 a i) (fun v => exF ev cL_law 361 ([v0, v1, v2, v3, v4, v5, v6], []) (.int v :: st) h) := exF_o (i := (i_ai 0 361)) rfl rfl
theorem eL_law_361 {ev : xV} {v0 v1 v2 v3 v4 v5 v6 : Option Value} {x : Int32} {st : List Value} {h : xH} : exF ev cL_law 361 ([v0, v1, v2, v3, v4, v5, v6], []) (.int x :: st) h = exF ev cL_law 362 ([v0, v1, v2, v3, v4, v5, v6], []) (.long x.toInt64 :: st) h := exF_j (i := (i_i2l 362)) rfl rfl
theorem eL_law_362 {ev : xV} {v0 v1 v2 v3 v4 v5 v6 : Option Value} {st : List Value} {h : xH} : exF ev cL_law 362 ([v0, v1, v2, v3, v4, v5, v6], []) st h = exF ev cL_law 365 ([v0, v1, v2, v3, v4, v5, v6], []) (.long (lN 4294967295) :: st) h := exF_j (i := (i_const (.long (lN 4294967295)) 365)) rfl rfl
theorem eL_law_365 {ev : xV} {v0 v1 v2 v3 v4 v5 v6 : Option Value} {x y : Int64} {st : List Value} {h : xH} : exF ev cL_law 365 ([v0, v1, v2, v3, v4, v5, v6], []) (.long y :: .long x :: st) h = exF ev cL_law 366 ([v0, v1, v2, v3, v4, v5, v6], []) (.long (x &&& y) :: st) h := exF_j (i := (i_ll (fun x y => x &&& y) 366)) rfl rfl
theorem eL_law_366 {ev : xV} {v0 v1 v2 v3 v4 v5 v6 : Option Value} {x y : Int64} {st : List Value} {h : xH} : exF ev cL_law 366 ([v0, v1, v2, v3, v4, v5, v6], []) (.long y :: .long x :: st) h = exF ev cL_law 367 ([v0, v1, v2, v3, v4, v5, v6], []) (.long (x ||| y) :: st) h := exF_j (i := (i_ll (fun x y => x ||| y) 367)) rfl rfl
theorem eL_law_367 {ev : xV} {v0 v1 v2 v3 v4 v5 v6 : Option Value} {a0 : Value} {a1 : Value} {a2 : Value} {r0 : Value} {a : Nat} {h : xH} : exF ev cL_law 367 ([v0, v1, v2, v3, v4, v5, v6], []) [a2, a1, a0, .ref a, r0] h = xO (xck h a 4) (fun _ => xB (ev 244 [.ref a, a0, a1, a2] h) (fun v h => exF ev cL_law 370 ([v0, v1, v2, v3, v4, v5, v6], []) [v, r0] h)) := exF_cd (i := (i_cv 4 244 3 370)) rfl rfl
theorem eL_law_370 {ev : xV} {v0 v1 v2 v3 v4 v5 v6 : Option Value} {x y : Int32} {st : List Value} {h : xH} : exF ev cL_law 370 ([v0, v1, v2, v3, v4, v5, v6], []) (.int y :: .int x :: st) h = if x = y then exF ev cL_law 1512 ([v0, v1, v2, v3, v4, v5, v6], []) st h else exF ev cL_law 373 ([v0, v1, v2, v3, v4, v5, v6], []) st h := exF_b (i := (i_if2 (fun x y => x = y) 1512 373)) rfl rfl
theorem eL_law_373 {ev : xV} {v0 v1 v2 v3 v4 v5 v6 : Option Value} {st : List Value} {h : xH} : exF ev cL_law 373 ([v0, v1, v2, v3, v4, v5, v6], []) st h = exF ev cL_law 374 ([v0, v1, v2, v3, v4, v5, v6], []) (.int (nI 0) :: st) h := exF_j (i := (i_const (.int (nI 0)) 374)) rfl rfl
theorem eL_law_374 {ev : xV} {v0 v1 v2 v3 v4 v5 v6 : Option Value} {x : Int32} {h : xH} : exF ev cL_law 374 ([v0, v1, v2, v3, v4, v5, v6], []) [.int x] h = if x = nI 0 ∨ x = nI 1 then some (.inl (some (.int x)), h) else none := exF_z (i := (i_zret)) rfl rfl
theorem eL_law_374b0 {ev : xV} {v0 v1 v2 v3 v4 v5 v6 : Option Value} {h : xH} : exF ev cL_law 374 ([v0, v1, v2, v3, v4, v5, v6], []) [.int (nI 0)] h = some (.inl (some (.int (nI 0))), h) := exF_r (i := (i_zret)) rfl i_zret_0
theorem eL_law_374b1 {ev : xV} {v0 v1 v2 v3 v4 v5 v6 : Option Value} {h : xH} : exF ev cL_law 374 ([v0, v1, v2, v3, v4, v5, v6], []) [.int (nI 1)] h = some (.inl (some (.int (nI 1))), h) := exF_r (i := (i_zret)) rfl i_zret_1
theorem eL_law_374b {ev : xV} {v0 v1 v2 v3 v4 v5 v6 : Option Value} {b : Bool} {h : xH} : exF ev cL_law 374 ([v0, v1, v2, v3, v4, v5, v6], []) [.int (bI b)] h = some (.inl (some (.int (bI b))), h) := exF_r (i := (i_zret)) rfl (i_zret_b b)
theorem eL_law_375 {ev : xV} {v0 v2 v3 v4 v5 v6 : Option Value} {x : Nat} {st : List Value} {h : xH} : exF ev cL_law 375 ([v0, some (.ref x), v2, v3, v4, v5, v6], []) st h = exF ev cL_law 376 ([v0, some (.ref x), v2, v3, v4, v5, v6], []) (.ref x :: st) h := exF_j (i := (i_aload 1 376)) rfl rfl
theorem eL_law_376 {ev : xV} {v0 v1 v2 v3 v4 v5 v6 : Option Value} {a : Nat} {h : xH} : exF ev cL_law 376 ([v0, v1, v2, v3, v4, v5, v6], []) [.ref a] h = xO (xck h a 0) (fun _ => xB (ev 90 [.ref a] h) (fun v h => exF ev cL_law 379 ([v0, v1, v2, v3, v4, v5, v6], []) [v] h)) := exF_cd (i := (i_cv 0 90 0 379)) rfl rfl
theorem eL_law_379 {ev : xV} {v0 v1 v3 v4 v5 v6 : Option Value} {x : Nat} {st : List Value} {h : xH} : exF ev cL_law 379 ([v0, v1, some (.ref x), v3, v4, v5, v6], []) st h = exF ev cL_law 380 ([v0, v1, some (.ref x), v3, v4, v5, v6], []) (.ref x :: st) h := exF_j (i := (i_aload 2 380)) rfl rfl
theorem eL_law_380 {ev : xV} {v0 v1 v2 v3 v4 v5 v6 : Option Value} {r0 : Value} {a : Nat} {h : xH} : exF ev cL_law 380 ([v0, v1, v2, v3, v4, v5, v6], []) [.ref a, r0] h = xO (xck h a 4) (fun _ => xB (ev 253 [.ref a] h) (fun v h => exF ev cL_law 383 ([v0, v1, v2, v3, v4, v5, v6], []) [v, r0] h)) := exF_cd (i := (i_cv 4 253 0 383)) rfl rfl
theorem eL_law_383 {ev : xV} {v0 v1 v2 v3 v4 v5 v6 : Option Value} {x y : Int32} {st : List Value} {h : xH} : exF ev cL_law 383 ([v0, v1, v2, v3, v4, v5, v6], []) (.int y :: .int x :: st) h = if x = y then exF ev cL_law 1512 ([v0, v1, v2, v3, v4, v5, v6], []) st h else exF ev cL_law 386 ([v0, v1, v2, v3, v4, v5, v6], []) st h := exF_b (i := (i_if2 (fun x y => x = y) 1512 386)) rfl rfl
theorem eL_law_386 {ev : xV} {v0 v1 v2 v3 v4 v5 v6 : Option Value} {st : List Value} {h : xH} : exF ev cL_law 386 ([v0, v1, v2, v3, v4, v5, v6], []) st h = exF ev cL_law 387 ([v0, v1, v2, v3, v4, v5, v6], []) (.int (nI 0) :: st) h := exF_j (i := (i_const (.int (nI 0)) 387)) rfl rfl
theorem eL_law_387 {ev : xV} {v0 v1 v2 v3 v4 v5 v6 : Option Value} {x : Int32} {h : xH} : exF ev cL_law 387 ([v0, v1, v2, v3, v4, v5, v6], []) [.int x] h = if x = nI 0 ∨ x = nI 1 then some (.inl (some (.int x)), h) else none := exF_z (i := (i_zret)) rfl rfl
theorem eL_law_387b0 {ev : xV} {v0 v1 v2 v3 v4 v5 v6 : Option Value} {h : xH} : exF ev cL_law 387 ([v0, v1, v2, v3, v4, v5, v6], []) [.int (nI 0)] h = some (.inl (some (.int (nI 0))), h) := exF_r (i := (i_zret)) rfl i_zret_0
theorem eL_law_387b1 {ev : xV} {v0 v1 v2 v3 v4 v5 v6 : Option Value} {h : xH} : exF ev cL_law 387 ([v0, v1, v2, v3, v4, v5, v6], []) [.int (nI 1)] h = some (.inl (some (.int (nI 1))), h) := exF_r (i := (i_zret)) rfl i_zret_1
theorem eL_law_387b {ev : xV} {v0 v1 v2 v3 v4 v5 v6 : Option Value} {b : Bool} {h : xH} : exF ev cL_law 387 ([v0, v1, v2, v3, v4, v5, v6], []) [.int (bI b)] h = some (.inl (some (.int (bI b))), h) := exF_r (i := (i_zret)) rfl (i_zret_b b)
theorem eL_law_388 {ev : xV} {v0 v2 v3 v4 v5 v6 : Option Value} {x : Nat} {st : List Value} {h : xH} : exF ev cL_law 388 ([v0, some (.ref x), v2, v3, v4, v5, v6], []) st h = exF ev cL_law 389 ([v0, some (.ref x), v2, v3, v4, v5, v6], []) (.ref x :: st) h := exF_j (i := (i_aload 1 389)) rfl rfl
theorem eL_law_389 {ev : xV} {v0 v1 v2 v3 v4 v5 v6 : Option Value} {a : Nat} {h : xH} : exF ev cL_law 389 ([v0, v1, v2, v3, v4, v5, v6], []) [.ref a] h = xO (xck h a 0) (fun _ => xB (ev 93 [.ref a] h) (fun v h => exF ev cL_law 392 ([v0, v1, v2, v3, v4, v5, v6], []) [v] h)) := exF_cd (i := (i_cv 0 93 0 392)) rfl rfl
theorem eL_law_392 {ev : xV} {v0 v1 v3 v4 v5 v6 : Option Value} {x : Nat} {st : List Value} {h : xH} : exF ev cL_law 392 ([v0, v1, some (.ref x), v3, v4, v5, v6], []) st h = exF ev cL_law 393 ([v0, v1, some (.ref x), v3, v4, v5, v6], []) (.ref x :: st) h := exF_j (i := (i_aload 2 393)) rfl rfl
theorem eL_law_393 {ev : xV} {v0 v1 v2 v3 v4 v5 v6 : Option Value} {r0 : Value} {a : Nat} {h : xH} : exF ev cL_law 393 ([v0, v1, v2, v3, v4, v5, v6], []) [.ref a, r0] h = xO (xck h a 4) (fun _ => xB (ev 285 [.ref a] h) (fun v h => exF ev cL_law 396 ([v0, v1, v2, v3, v4, v5, v6], []) [v, r0] h)) := exF_cd (i := (i_cv 4 285 0 396)) rfl rfl
theorem eL_law_396 {ev : xV} {v0 v1 v2 v3 v4 v5 v6 : Option Value} {x y : Int32} {st : List Value} {h : xH} : exF ev cL_law 396 ([v0, v1, v2, v3, v4, v5, v6], []) (.int y :: .int x :: st) h = if x = y then exF ev cL_law 1512 ([v0, v1, v2, v3, v4, v5, v6], []) st h else exF ev cL_law 399 ([v0, v1, v2, v3, v4, v5, v6], []) st h := exF_b (i := (i_if2 (fun x y => x = y) 1512 399)) rfl rfl
theorem eL_law_399 {ev : xV} {v0 v1 v2 v3 v4 v5 v6 : Option Value} {st : List Value} {h : xH} : exF ev cL_law 399 ([v0, v1, v2, v3, v4, v5, v6], []) st h = exF ev cL_law 400 ([v0, v1, v2, v3, v4, v5, v6], []) (.int (nI 0) :: st) h := exF_j (i := (i_const (.int (nI 0)) 400)) rfl rfl
theorem eL_law_400 {ev : xV} {v0 v1 v2 v3 v4 v5 v6 : Option Value} {x : Int32} {h : xH} : exF ev cL_law 400 ([v0, v1, v2, v3, v4, v5, v6], []) [.int x] h = if x = nI 0 ∨ x = nI 1 then some (.inl (some (.int x)), h) else none := exF_z (i := (i_zret)) rfl rfl
theorem eL_law_400b0 {ev : xV} {v0 v1 v2 v3 v4 v5 v6 : Option Value} {h : xH} : exF ev cL_law 400 ([v0, v1, v2, v3, v4, v5, v6], []) [.int (nI 0)] h = some (.inl (some (.int (nI 0))), h) := exF_r (i := (i_zret)) rfl i_zret_0
theorem eL_law_400b1 {ev : xV} {v0 v1 v2 v3 v4 v5 v6 : Option Value} {h : xH} : exF ev cL_law 400 ([v0, v1, v2, v3, v4, v5, v6], []) [.int (nI 1)] h = some (.inl (some (.int (nI 1))), h) := exF_r (i := (i_zret)) rfl i_zret_1
theorem eL_law_400b {ev : xV} {v0 v1 v2 v3 v4 v5 v6 : Option Value} {b : Bool} {h : xH} : exF ev cL_law 400 ([v0, v1, v2, v3, v4, v5, v6], []) [.int (bI b)] h = some (.inl (some (.int (bI b))), h) := exF_r (i := (i_zret)) rfl (i_zret_b b)
theorem eL_law_401 {ev : xV} {v0 v2 v3 v4 v5 v6 : Option Value} {x : Nat} {st : List Value} {h : xH} : exF ev cL_law 401 ([v0, some (.ref x), v2, v3, v4, v5, v6], []) st h = exF ev cL_law 402 ([v0, some (.ref x), v2, v3, v4, v5, v6], []) (.ref x :: st) h := exF_j (i := (i_aload 1 402)) rfl rfl
theorem eL_law_402 {ev : xV} {v1 v2 v3 v4 v5 v6 : Option Value} {x : Nat} {st : List Value} {h : xH} : exF ev cL_law 402 ([some (.ref x), v1, v2, v3, v4, v5, v6], []) st h = exF ev cL_law 403 ([some (.ref x), v1, v2, v3, v4, v5, v6], []) (.ref x :: st) h := exF_j (i := (i_aload 0 403)) rfl rfl
theorem eL_law_403 {ev : xV} {v0 v1 v2 v3 v5 v6 : Option Value} {x : Int32} {st : List Value} {h : xH} : exF ev cL_law 403 ([v0, v1, v2, v3, some (.int x), v5, v6], []) st h = exF ev cL_law 405 ([v0, v1, v2, v3, some (.int x), v5, v6], []) (.int x :: st) h := exF_j (i := (i_iload 4 405)) rfl rfl
theorem eL_law_405 {ev : xV} {v0 v1 v2 v3 v4 v5 v6 : Option Value} {st : List Value} {h : xH} : exF ev cL_law 405 ([v0, v1, v2, v3, v4, v5, v6], []) st h = exF ev cL_law 406 ([v0, v1, v2, v3, v4, v5, v6], []) (.int (nI 1) :: st) h := exF_j (i := (i_const (.int (nI 1)) 406)) rfl rfl
theorem eL_law_406 {ev : xV} {v0 v1 v2 v3 v4 v5 v6 : Option Value} {x y : Int32} {st : List Value} {h : xH} : exF ev cL_law 406 ([v0, v1, v2, v3, v4, v5, v6], []) (.int y :: .int x :: st) h = exF ev cL_law 407 ([v0, v1, v2, v3, v4, v5, v6], []) (.int (x + y) :: st) h := exF_j (i := (i_ii (fun x y => x + y) 407)) rfl rfl
theorem eL_law_407 {ev : xV} {v0 v1 v2 v3 v4 v5 v6 : Option Value} {i : Int32} {a : Nat} {st : List Value} {h : xH} : exF ev cL_law 407 ([v0, v1, v2, v3, v4, v5, v6], []) (.int i :: .ref a :: st) h = xO (xai h 0 a i) (fun v => exF ev cL_law 408 ([v0, v1, v2, v3, v4, v5, v6], []) (.int v :: st) h) := exF_o (i := (i_ai 0 408)) rfl rfl
theorem eL_law_408 {ev : xV} {v1 v2 v3 v4 v5 v6 : Option Value} {x : Nat} {st : List Value} {h : xH} : exF ev cL_law 408 ([some (.ref x), v1, v2, v3, v4, v5, v6], []) st h = exF ev cL_law 409 ([some (.ref x), v1, v2, v3, v4, v5, v6], []) (.ref x :: st) h := exF_j (i := (i_aload 0 409)) rfl rfl
theorem eL_law_409 {ev : xV} {v0 v1 v2 v3 v5 v6 : Option Value} {x : Int32} {st : List Value} {h : xH} : exF ev cL_law 409 ([v0, v1, v2, v3, some (.int x), v5, v6], []) st h = exF ev cL_law 411 ([v0, v1, v2, v3, some (.int x), v5, v6], []) (.int x :: st) h := exF_j (i := (i_iload 4 411)) rfl rfl
theorem eL_law_411 {ev : xV} {v0 v1 v2 v3 v4 v5 v6 : Option Value} {st : List Value} {h : xH} : exF ev cL_law 411 ([v0, v1, v2, v3, v4, v5, v6], []) st h = exF ev cL_law 412 ([v0, v1, v2, v3, v4, v5, v6], []) (.int (nI 2) :: st) h := exF_j (i := (i_const (.int (nI 2)) 412)) rfl rfl
theorem eL_law_412 {ev : xV} {v0 v1 v2 v3 v4 v5 v6 : Option Value} {x y : Int32} {st : List Value} {h : xH} : exF ev cL_law 412 ([v0, v1, v2, v3, v4, v5, v6], []) (.int y :: .int x :: st) h = exF ev cL_law 413 ([v0, v1, v2, v3, v4, v5, v6], []) (.int (x + y) :: st) h := exF_j (i := (i_ii (fun x y => x + y) 413)) rfl rfl
theorem eL_law_413 {ev : xV} {v0 v1 v2 v3 v4 v5 v6 : Option Value} {i : Int32} {a : Nat} {st : List Value} {h : xH} : exF ev cL_law 413 ([v0, v1, v2, v3, v4, v5, v6], []) (.int i :: .ref a :: st) h = xO (xai h 0 a i) (fun v => exF ev cL_law 414 ([v0, v1, v2, v3, v4, v5, v6], []) (.int v :: st) h) := exF_o (i := (i_ai 0 414)) rfl rfl
theorem eL_law_414 {ev : xV} {v0 v1 v2 v3 v4 v5 v6 : Option Value} {a0 : Value} {a1 : Value} {a : Nat} {h : xH} : exF ev cL_law 414 ([v0, v1, v2, v3, v4, v5, v6], []) [a1, a0, .ref a] h = xO (xck h a 0) (fun _ => xB (ev 94 [.ref a, a0, a1] h) (fun v h => exF ev cL_law 417 ([v0, v1, v2, v3, v4, v5, v6], []) [v] h)) := exF_cd (i := (i_cv 0 94 2 417)) rfl rfl
theorem eL_law_417 {ev : xV} {v0 v1 v3 v4 v5 v6 : Option Value} {x : Nat} {st : List Value} {h : xH} : exF ev cL_law 417 ([v0, v1, some (.ref x), v3, v4, v5, v6], []) st h = exF ev cL_law 418 ([v0, v1, some (.ref x), v3, v4, v5, v6], []) (.ref x :: st) h := exF_j (i := (i_aload 2 418)) rfl rfl
theorem eL_law_418 {ev : xV} {v1 v2 v3 v4 v5 v6 : Option Value} {x : Nat} {st : List Value} {h : xH} : exF ev cL_law 418 ([some (.ref x), v1, v2, v3, v4, v5, v6], []) st h = exF ev cL_law 419 ([some (.ref x), v1, v2, v3, v4, v5, v6], []) (.ref x :: st) h := exF_j (i := (i_aload 0 419)) rfl rfl
theorem eL_law_419 {ev : xV} {v0 v1 v2 v3 v5 v6 : Option Value} {x : Int32} {st : List Value} {h : xH} : exF ev cL_law 419 ([v0, v1, v2, v3, some (.int x), v5, v6], []) st h = exF ev cL_law 421 ([v0, v1, v2, v3, some (.int x), v5, v6], []) (.int x :: st) h := exF_j (i := (i_iload 4 421)) rfl rfl
theorem eL_law_421 {ev : xV} {v0 v1 v2 v3 v4 v5 v6 : Option Value} {st : List Value} {h : xH} : exF ev cL_law 421 ([v0, v1, v2, v3, v4, v5, v6], []) st h = exF ev cL_law 422 ([v0, v1, v2, v3, v4, v5, v6], []) (.int (nI 1) :: st) h := exF_j (i := (i_const (.int (nI 1)) 422)) rfl rfl
theorem eL_law_422 {ev : xV} {v0 v1 v2 v3 v4 v5 v6 : Option Value} {x y : Int32} {st : List Value} {h : xH} : exF ev cL_law 422 ([v0, v1, v2, v3, v4, v5, v6], []) (.int y :: .int x :: st) h = exF ev cL_law 423 ([v0, v1, v2, v3, v4, v5, v6], []) (.int (x + y) :: st) h := exF_j (i := (i_ii (fun x y => x + y) 423)) rfl rfl
theorem eL_law_423 {ev : xV} {v0 v1 v2 v3 v4 v5 v6 : Option Value} {i : Int32} {a : Nat} {st : List Value} {h : xH} : exF ev cL_law 423 ([v0, v1, v2, v3, v4, v5, v6], []) (.int i :: .ref a :: st) h = xO (xai h 0 a i) (fun v => exF ev cL_law 424 ([v0, v1, v2, v3, v4, v5, v6], []) (.int v :: st) h) := exF_o (i := (i_ai 0 424)) rfl rfl
theorem eL_law_424 {ev : xV} {v1 v2 v3 v4 v5 v6 : Option Value} {x : Nat} {st : List Value} {h : xH} : exF ev cL_law 424 ([some (.ref x), v1, v2, v3, v4, v5, v6], []) st h = exF ev cL_law 425 ([some (.ref x), v1, v2, v3, v4, v5, v6], []) (.ref x :: st) h := exF_j (i := (i_aload 0 425)) rfl rfl
theorem eL_law_425 {ev : xV} {v0 v1 v2 v3 v5 v6 : Option Value} {x : Int32} {st : List Value} {h : xH} : exF ev cL_law 425 ([v0, v1, v2, v3, some (.int x), v5, v6], []) st h = exF ev cL_law 427 ([v0, v1, v2, v3, some (.int x), v5, v6], []) (.int x :: st) h := exF_j (i := (i_iload 4 427)) rfl rfl
theorem eL_law_427 {ev : xV} {v0 v1 v2 v3 v4 v5 v6 : Option Value} {st : List Value} {h : xH} : exF ev cL_law 427 ([v0, v1, v2, v3, v4, v5, v6], []) st h = exF ev cL_law 428 ([v0, v1, v2, v3, v4, v5, v6], []) (.int (nI 2) :: st) h := exF_j (i := (i_const (.int (nI 2)) 428)) rfl rfl
theorem eL_law_428 {ev : xV} {v0 v1 v2 v3 v4 v5 v6 : Option Value} {x y : Int32} {st : List Value} {h : xH} : exF ev cL_law 428 ([v0, v1, v2, v3, v4, v5, v6], []) (.int y :: .int x :: st) h = exF ev cL_law 429 ([v0, v1, v2, v3, v4, v5, v6], []) (.int (x + y) :: st) h := exF_j (i := (i_ii (fun x y => x + y) 429)) rfl rfl
theorem eL_law_429 {ev : xV} {v0 v1 v2 v3 v4 v5 v6 : Option Value} {i : Int32} {a : Nat} {st : List Value} {h : xH} : exF ev cL_law 429 ([v0, v1, v2, v3, v4, v5, v6], []) (.int i :: .ref a :: st) h = xO (xai h 0 a i) (fun v => exF ev cL_law 430 ([v0, v1, v2, v3, v4, v5, v6], []) (.int v :: st) h) := exF_o (i := (i_ai 0 430)) rfl rfl
theorem eL_law_430 {ev : xV} {v0 v1 v2 v3 v4 v5 v6 : Option Value} {a0 : Value} {a1 : Value} {r0 : Value} {a : Nat} {h : xH} : exF ev cL_law 430 ([v0, v1, v2, v3, v4, v5, v6], []) [a1, a0, .ref a, r0] h = xO (xck h a 4) (fun _ => xB (ev 286 [.ref a, a0, a1] h) (fun v h => exF ev cL_law 433 ([v0, v1, v2, v3, v4, v5, v6], []) [v, r0] h)) := exF_cd (i := (i_cv 4 286 2 433)) rfl rfl
theorem eL_law_433 {ev : xV} {v0 v1 v2 v3 v4 v5 v6 : Option Value} {x y : Int32} {st : List Value} {h : xH} : exF ev cL_law 433 ([v0, v1, v2, v3, v4, v5, v6], []) (.int y :: .int x :: st) h = if x = y then exF ev cL_law 1512 ([v0, v1, v2, v3, v4, v5, v6], []) st h else exF ev cL_law 436 ([v0, v1, v2, v3, v4, v5, v6], []) st h := exF_b (i := (i_if2 (fun x y => x = y) 1512 436)) rfl rfl
theorem eL_law_436 {ev : xV} {v0 v1 v2 v3 v4 v5 v6 : Option Value} {st : List Value} {h : xH} : exF ev cL_law 436 ([v0, v1, v2, v3, v4, v5, v6], []) st h = exF ev cL_law 437 ([v0, v1, v2, v3, v4, v5, v6], []) (.int (nI 0) :: st) h := exF_j (i := (i_const (.int (nI 0)) 437)) rfl rfl
theorem eL_law_437 {ev : xV} {v0 v1 v2 v3 v4 v5 v6 : Option Value} {x : Int32} {h : xH} : exF ev cL_law 437 ([v0, v1, v2, v3, v4, v5, v6], []) [.int x] h = if x = nI 0 ∨ x = nI 1 then some (.inl (some (.int x)), h) else none := exF_z (i := (i_zret)) rfl rfl
theorem eL_law_437b0 {ev : xV} {v0 v1 v2 v3 v4 v5 v6 : Option Value} {h : xH} : exF ev cL_law 437 ([v0, v1, v2, v3, v4, v5, v6], []) [.int (nI 0)] h = some (.inl (some (.int (nI 0))), h) := exF_r (i := (i_zret)) rfl i_zret_0
theorem eL_law_437b1 {ev : xV} {v0 v1 v2 v3 v4 v5 v6 : Option Value} {h : xH} : exF ev cL_law 437 ([v0, v1, v2, v3, v4, v5, v6], []) [.int (nI 1)] h = some (.inl (some (.int (nI 1))), h) := exF_r (i := (i_zret)) rfl i_zret_1
theorem eL_law_437b {ev : xV} {v0 v1 v2 v3 v4 v5 v6 : Option Value} {b : Bool} {h : xH} : exF ev cL_law 437 ([v0, v1, v2, v3, v4, v5, v6], []) [.int (bI b)] h = some (.inl (some (.int (bI b))), h) := exF_r (i := (i_zret)) rfl (i_zret_b b)
theorem eL_law_438 {ev : xV} {v0 v2 v3 v4 v5 v6 : Option Value} {x : Nat} {st : List Value} {h : xH} : exF ev cL_law 438 ([v0, some (.ref x), v2, v3, v4, v5, v6], []) st h = exF ev cL_law 439 ([v0, some (.ref x), v2, v3, v4, v5, v6], []) (.ref x :: st) h := exF_j (i := (i_aload 1 439)) rfl rfl
theorem eL_law_439 {ev : xV} {v1 v2 v3 v4 v5 v6 : Option Value} {x : Nat} {st : List Value} {h : xH} : exF ev cL_law 439 ([some (.ref x), v1, v2, v3, v4, v5, v6], []) st h = exF ev cL_law 440 ([some (.ref x), v1, v2, v3, v4, v5, v6], []) (.ref x :: st) h := exF_j (i := (i_aload 0 440)) rfl rfl
theorem eL_law_440 {ev : xV} {v0 v1 v2 v3 v5 v6 : Option Value} {x : Int32} {st : List Value} {h : xH} : exF ev cL_law 440 ([v0, v1, v2, v3, some (.int x), v5, v6], []) st h = exF ev cL_law 442 ([v0, v1, v2, v3, some (.int x), v5, v6], []) (.int x :: st) h := exF_j (i := (i_iload 4 442)) rfl rfl
theorem eL_law_442 {ev : xV} {v0 v1 v2 v3 v4 v5 v6 : Option Value} {st : List Value} {h : xH} : exF ev cL_law 442 ([v0, v1, v2, v3, v4, v5, v6], []) st h = exF ev cL_law 443 ([v0, v1, v2, v3, v4, v5, v6], []) (.int (nI 1) :: st) h := exF_j (i := (i_const (.int (nI 1)) 443)) rfl rfl
theorem eL_law_443 {ev : xV} {v0 v1 v2 v3 v4 v5 v6 : Option Value} {x y : Int32} {st : List Value} {h : xH} : exF ev cL_law 443 ([v0, v1, v2, v3, v4, v5, v6], []) (.int y :: .int x :: st) h = exF ev cL_law 444 ([v0, v1, v2, v3, v4, v5, v6], []) (.int (x + y) :: st) h := exF_j (i := (i_ii (fun x y => x + y) 444)) rfl rfl
theorem eL_law_444 {ev : xV} {v0 v1 v2 v3 v4 v5 v6 : Option Value} {i : Int32} {a : Nat} {st : List Value} {h : xH} : exF ev cL_law 444 ([v0, v1, v2, v3, v4, v5, v6], []) (.int i :: .ref a :: st) h = xO (xai h 0 a i) (fun v => exF ev cL_law 445 ([v0, v1, v2, v3, v4, v5, v6], []) (.int v :: st) h) := exF_o (i := (i_ai 0 445)) rfl rfl
theorem eL_law_445 {ev : xV} {v0 v1 v2 v3 v4 v5 v6 : Option Value} {a0 : Value} {a : Nat} {h : xH} : exF ev cL_law 445 ([v0, v1, v2, v3, v4, v5, v6], []) [a0, .ref a] h = xO (xck h a 0) (fun _ => xB (ev 99 [.ref a, a0] h) (fun v h => exF ev cL_law 448 ([v0, v1, v2, v3, v4, v5, v6], []) [v] h)) := exF_cd (i := (i_cv 0 99 1 448)) rfl rfl
theorem eL_law_448 {ev : xV} {v0 v1 v3 v4 v5 v6 : Option Value} {x : Nat} {st : List Value} {h : xH} : exF ev cL_law 448 ([v0, v1, some (.ref x), v3, v4, v5, v6], []) st h = exF ev cL_law 449 ([v0, v1, some (.ref x), v3, v4, v5, v6], []) (.ref x :: st) h := exF_j (i := (i_aload 2 449)) rfl rfl
theorem eL_law_449 {ev : xV} {v1 v2 v3 v4 v5 v6 : Option Value} {x : Nat} {st : List Value} {h : xH} : exF ev cL_law 449 ([some (.ref x), v1, v2, v3, v4, v5, v6], []) st h = exF ev cL_law 450 ([some (.ref x), v1, v2, v3, v4, v5, v6], []) (.ref x :: st) h := exF_j (i := (i_aload 0 450)) rfl rfl
theorem eL_law_450 {ev : xV} {v0 v1 v2 v3 v5 v6 : Option Value} {x : Int32} {st : List Value} {h : xH} : exF ev cL_law 450 ([v0, v1, v2, v3, some (.int x), v5, v6], []) st h = exF ev cL_law 452 ([v0, v1, v2, v3, some (.int x), v5, v6], []) (.int x :: st) h := exF_j (i := (i_iload 4 452)) rfl rfl
theorem eL_law_452 {ev : xV} {v0 v1 v2 v3 v4 v5 v6 : Option Value} {st : List Value} {h : xH} : exF ev cL_law 452 ([v0, v1, v2, v3, v4, v5, v6], []) st h = exF ev cL_law 453 ([v0, v1, v2, v3, v4, v5, v6], []) (.int (nI 1) :: st) h := exF_j (i := (i_const (.int (nI 1)) 453)) rfl rfl
theorem eL_law_453 {ev : xV} {v0 v1 v2 v3 v4 v5 v6 : Option Value} {x y : Int32} {st : List Value} {h : xH} : exF ev cL_law 453 ([v0, v1, v2, v3, v4, v5, v6], []) (.int y :: .int x :: st) h = exF ev cL_law 454 ([v0, v1, v2, v3, v4, v5, v6], []) (.int (x + y) :: st) h := exF_j (i := (i_ii (fun x y => x + y) 454)) rfl rfl
theorem eL_law_454 {ev : xV} {v0 v1 v2 v3 v4 v5 v6 : Option Value} {i : Int32} {a : Nat} {st : List Value} {h : xH} : exF ev cL_law 454 ([v0, v1, v2, v3, v4, v5, v6], []) (.int i :: .ref a :: st) h = xO (xai h 0 a i) (fun v => exF ev cL_law 455 ([v0, v1, v2, v3, v4, v5, v6], []) (.int v :: st) h) := exF_o (i := (i_ai 0 455)) rfl rfl
theorem eL_law_455 {ev : xV} {v0 v1 v2 v3 v4 v5 v6 : Option Value} {a0 : Value} {r0 : Value} {a : Nat} {h : xH} : exF ev cL_law 455 ([v0, v1, v2, v3, v4, v5, v6], []) [a0, .ref a, r0] h = xO (xck h a 4) (fun _ => xB (ev 291 [.ref a, a0] h) (fun v h => exF ev cL_law 458 ([v0, v1, v2, v3, v4, v5, v6], []) [v, r0] h)) := exF_cd (i := (i_cv 4 291 1 458)) rfl rfl
theorem eL_law_458 {ev : xV} {v0 v1 v2 v3 v4 v5 v6 : Option Value} {x y : Int32} {st : List Value} {h : xH} : exF ev cL_law 458 ([v0, v1, v2, v3, v4, v5, v6], []) (.int y :: .int x :: st) h = if x = y then exF ev cL_law 1512 ([v0, v1, v2, v3, v4, v5, v6], []) st h else exF ev cL_law 461 ([v0, v1, v2, v3, v4, v5, v6], []) st h := exF_b (i := (i_if2 (fun x y => x = y) 1512 461)) rfl rfl
theorem eL_law_461 {ev : xV} {v0 v1 v2 v3 v4 v5 v6 : Option Value} {st : List Value} {h : xH} : exF ev cL_law 461 ([v0, v1, v2, v3, v4, v5, v6], []) st h = exF ev cL_law 462 ([v0, v1, v2, v3, v4, v5, v6], []) (.int (nI 0) :: st) h := exF_j (i := (i_const (.int (nI 0)) 462)) rfl rfl
theorem eL_law_462 {ev : xV} {v0 v1 v2 v3 v4 v5 v6 : Option Value} {x : Int32} {h : xH} : exF ev cL_law 462 ([v0, v1, v2, v3, v4, v5, v6], []) [.int x] h = if x = nI 0 ∨ x = nI 1 then some (.inl (some (.int x)), h) else none := exF_z (i := (i_zret)) rfl rfl
theorem eL_law_462b0 {ev : xV} {v0 v1 v2 v3 v4 v5 v6 : Option Value} {h : xH} : exF ev cL_law 462 ([v0, v1, v2, v3, v4, v5, v6], []) [.int (nI 0)] h = some (.inl (some (.int (nI 0))), h) := exF_r (i := (i_zret)) rfl i_zret_0
theorem eL_law_462b1 {ev : xV} {v0 v1 v2 v3 v4 v5 v6 : Option Value} {h : xH} : exF ev cL_law 462 ([v0, v1, v2, v3, v4, v5, v6], []) [.int (nI 1)] h = some (.inl (some (.int (nI 1))), h) := exF_r (i := (i_zret)) rfl i_zret_1
theorem eL_law_462b {ev : xV} {v0 v1 v2 v3 v4 v5 v6 : Option Value} {b : Bool} {h : xH} : exF ev cL_law 462 ([v0, v1, v2, v3, v4, v5, v6], []) [.int (bI b)] h = some (.inl (some (.int (bI b))), h) := exF_r (i := (i_zret)) rfl (i_zret_b b)
theorem eL_law_463 {ev : xV} {v0 v2 v3 v4 v5 v6 : Option Value} {x : Nat} {st : List Value} {h : xH} : exF ev cL_law 463 ([v0, some (.ref x), v2, v3, v4, v5, v6], []) st h = exF ev cL_law 464 ([v0, some (.ref x), v2, v3, v4, v5, v6], []) (.ref x :: st) h := exF_j (i := (i_aload 1 464)) rfl rfl
theorem eL_law_464 {ev : xV} {v0 v1 v2 v3 v4 v5 v6 : Option Value} {a : Nat} {h : xH} : exF ev cL_law 464 ([v0, v1, v2, v3, v4, v5, v6], []) [.ref a] h = xO (xck h a 0) (fun _ => xB (ev 102 [.ref a] h) (fun v h => exF ev cL_law 467 ([v0, v1, v2, v3, v4, v5, v6], []) [v] h)) := exF_cd (i := (i_cv 0 102 0 467)) rfl rfl
theorem eL_law_467 {ev : xV} {v0 v1 v3 v4 v5 v6 : Option Value} {x : Nat} {st : List Value} {h : xH} : exF ev cL_law 467 ([v0, v1, some (.ref x), v3, v4, v5, v6], []) st h = exF ev cL_law 468 ([v0, v1, some (.ref x), v3, v4, v5, v6], []) (.ref x :: st) h := exF_j (i := (i_aload 2 468)) rfl rfl
theorem eL_law_468 {ev : xV} {v0 v1 v2 v3 v4 v5 v6 : Option Value} {r0 : Value} {a : Nat} {h : xH} : exF ev cL_law 468 ([v0, v1, v2, v3, v4, v5, v6], []) [.ref a, r0] h = xO (xck h a 4) (fun _ => xB (ev 293 [.ref a] h) (fun v h => exF ev cL_law 471 ([v0, v1, v2, v3, v4, v5, v6], []) [v, r0] h)) := exF_cd (i := (i_cv 4 293 0 471)) rfl rfl
theorem eL_law_471 {ev : xV} {v0 v1 v2 v3 v4 v5 v6 : Option Value} {x y : Int32} {st : List Value} {h : xH} : exF ev cL_law 471 ([v0, v1, v2, v3, v4, v5, v6], []) (.int y :: .int x :: st) h = if x = y then exF ev cL_law 1512 ([v0, v1, v2, v3, v4, v5, v6], []) st h else exF ev cL_law 474 ([v0, v1, v2, v3, v4, v5, v6], []) st h := exF_b (i := (i_if2 (fun x y => x = y) 1512 474)) rfl rfl
theorem eL_law_474 {ev : xV} {v0 v1 v2 v3 v4 v5 v6 : Option Value} {st : List Value} {h : xH} : exF ev cL_law 474 ([v0, v1, v2, v3, v4, v5, v6], []) st h = exF ev cL_law 475 ([v0, v1, v2, v3, v4, v5, v6], []) (.int (nI 0) :: st) h := exF_j (i := (i_const (.int (nI 0)) 475)) rfl rfl
theorem eL_law_475 {ev : xV} {v0 v1 v2 v3 v4 v5 v6 : Option Value} {x : Int32} {h : xH} : exF ev cL_law 475 ([v0, v1, v2, v3, v4, v5, v6], []) [.int x] h = if x = nI 0 ∨ x = nI 1 then some (.inl (some (.int x)), h) else none := exF_z (i := (i_zret)) rfl rfl
theorem eL_law_475b0 {ev : xV} {v0 v1 v2 v3 v4 v5 v6 : Option Value} {h : xH} : exF ev cL_law 475 ([v0, v1, v2, v3, v4, v5, v6], []) [.int (nI 0)] h = some (.inl (some (.int (nI 0))), h) := exF_r (i := (i_zret)) rfl i_zret_0
theorem eL_law_475b1 {ev : xV} {v0 v1 v2 v3 v4 v5 v6 : Option Value} {h : xH} : exF ev cL_law 475 ([v0, v1, v2, v3, v4, v5, v6], []) [.int (nI 1)] h = some (.inl (some (.int (nI 1))), h) := exF_r (i := (i_zret)) rfl i_zret_1
theorem eL_law_475b {ev : xV} {v0 v1 v2 v3 v4 v5 v6 : Option Value} {b : Bool} {h : xH} : exF ev cL_law 475 ([v0, v1, v2, v3, v4, v5, v6], []) [.int (bI b)] h = some (.inl (some (.int (bI b))), h) := exF_r (i := (i_zret)) rfl (i_zret_b b)
theorem eL_law_476 {ev : xV} {v0 v2 v3 v4 v5 v6 : Option Value} {x : Nat} {st : List Value} {h : xH} : exF ev cL_law 476 ([v0, some (.ref x), v2, v3, v4, v5, v6], []) st h = exF ev cL_law 477 ([v0, some (.ref x), v2, v3, v4, v5, v6], []) (.ref x :: st) h := exF_j (i := (i_aload 1 477)) rfl rfl
theorem eL_law_477 {ev : xV} {v1 v2 v3 v4 v5 v6 : Option Value} {x : Nat} {st : List Value} {h : xH} : exF ev cL_law 477 ([some (.ref x), v1, v2, v3, v4, v5, v6], []) st h = exF ev cL_law 478 ([some (.ref x), v1, v2, v3, v4, v5, v6], []) (.ref x :: st) h := exF_j (i := (i_aload 0 478)) rfl rfl
theorem eL_law_478 {ev : xV} {v0 v1 v2 v3 v5 v6 : Option Value} {x : Int32} {st : List Value} {h : xH} : exF ev cL_law 478 ([v0, v1, v2, v3, some (.int x), v5, v6], []) st h = exF ev cL_law 480 ([v0, v1, v2, v3, some (.int x), v5, v6], []) (.int x :: st) h := exF_j (i := (i_iload 4 480)) rfl rfl
theorem eL_law_480 {ev : xV} {v0 v1 v2 v3 v4 v5 v6 : Option Value} {st : List Value} {h : xH} : exF ev cL_law 480 ([v0, v1, v2, v3, v4, v5, v6], []) st h = exF ev cL_law 481 ([v0, v1, v2, v3, v4, v5, v6], []) (.int (nI 1) :: st) h := exF_j (i := (i_const (.int (nI 1)) 481)) rfl rfl
theorem eL_law_481 {ev : xV} {v0 v1 v2 v3 v4 v5 v6 : Option Value} {x y : Int32} {st : List Value} {h : xH} : exF ev cL_law 481 ([v0, v1, v2, v3, v4, v5, v6], []) (.int y :: .int x :: st) h = exF ev cL_law 482 ([v0, v1, v2, v3, v4, v5, v6], []) (.int (x + y) :: st) h := exF_j (i := (i_ii (fun x y => x + y) 482)) rfl rfl
theorem eL_law_482 {ev : xV} {v0 v1 v2 v3 v4 v5 v6 : Option Value} {i : Int32} {a : Nat} {st : List Value} {h : xH} : exF ev cL_law 482 ([v0, v1, v2, v3, v4, v5, v6], []) (.int i :: .ref a :: st) h = xO (xai h 0 a i) (fun v => exF ev cL_law 483 ([v0, v1, v2, v3, v4, v5, v6], []) (.int v :: st) h) := exF_o (i := (i_ai 0 483)) rfl rfl
theorem eL_law_483 {ev : xV} {v1 v2 v3 v4 v5 v6 : Option Value} {x : Nat} {st : List Value} {h : xH} : exF ev cL_law 483 ([some (.ref x), v1, v2, v3, v4, v5, v6], []) st h = exF ev cL_law 484 ([some (.ref x), v1, v2, v3, v4, v5, v6], []) (.ref x :: st) h := exF_j (i := (i_aload 0 484)) rfl rfl
theorem eL_law_484 {ev : xV} {v0 v1 v2 v3 v5 v6 : Option Value} {x : Int32} {st : List Value} {h : xH} : exF ev cL_law 484 ([v0, v1, v2, v3, some (.int x), v5, v6], []) st h = exF ev cL_law 486 ([v0, v1, v2, v3, some (.int x), v5, v6], []) (.int x :: st) h := exF_j (i := (i_iload 4 486)) rfl rfl
theorem eL_law_486 {ev : xV} {v0 v1 v2 v3 v4 v5 v6 : Option Value} {st : List Value} {h : xH} : exF ev cL_law 486 ([v0, v1, v2, v3, v4, v5, v6], []) st h = exF ev cL_law 487 ([v0, v1, v2, v3, v4, v5, v6], []) (.int (nI 2) :: st) h := exF_j (i := (i_const (.int (nI 2)) 487)) rfl rfl
theorem eL_law_487 {ev : xV} {v0 v1 v2 v3 v4 v5 v6 : Option Value} {x y : Int32} {st : List Value} {h : xH} : exF ev cL_law 487 ([v0, v1, v2, v3, v4, v5, v6], []) (.int y :: .int x :: st) h = exF ev cL_law 488 ([v0, v1, v2, v3, v4, v5, v6], []) (.int (x + y) :: st) h := exF_j (i := (i_ii (fun x y => x + y) 488)) rfl rfl
theorem eL_law_488 {ev : xV} {v0 v1 v2 v3 v4 v5 v6 : Option Value} {i : Int32} {a : Nat} {st : List Value} {h : xH} : exF ev cL_law 488 ([v0, v1, v2, v3, v4, v5, v6], []) (.int i :: .ref a :: st) h = xO (xai h 0 a i) (fun v => exF ev cL_law 489 ([v0, v1, v2, v3, v4, v5, v6], []) (.int v :: st) h) := exF_o (i := (i_ai 0 489)) rfl rfl
theorem eL_law_489 {ev : xV} {v0 v1 v2 v3 v4 v5 v6 : Option Value} {a0 : Value} {a1 : Value} {a : Nat} {h : xH} : exF ev cL_law 489 ([v0, v1, v2, v3, v4, v5, v6], []) [a1, a0, .ref a] h = xO (xck h a 0) (fun _ => xB (ev 109 [.ref a, a0, a1] h) (fun v h => exF ev cL_law 492 ([v0, v1, v2, v3, v4, v5, v6], []) [v] h)) := exF_cd (i := (i_cv 0 109 2 492)) rfl rfl
theorem eL_law_492 {ev : xV} {v0 v1 v3 v4 v5 v6 : Option Value} {x : Nat} {st : List Value} {h : xH} : exF ev cL_law 492 ([v0, v1, some (.ref x), v3, v4, v5, v6], []) st h = exF ev cL_law 493 ([v0, v1, some (.ref x), v3, v4, v5, v6], []) (.ref x :: st) h := exF_j (i := (i_aload 2 493)) rfl rfl
theorem eL_law_493 {ev : xV} {v1 v2 v3 v4 v5 v6 : Option Value} {x : Nat} {st : List Value} {h : xH} : exF ev cL_law 493 ([some (.ref x), v1, v2, v3, v4, v5, v6], []) st h = exF ev cL_law 494 ([some (.ref x), v1, v2, v3, v4, v5, v6], []) (.ref x :: st) h := exF_j (i := (i_aload 0 494)) rfl rfl
theorem eL_law_494 {ev : xV} {v0 v1 v2 v3 v5 v6 : Option Value} {x : Int32} {st : List Value} {h : xH} : exF ev cL_law 494 ([v0, v1, v2, v3, some (.int x), v5, v6], []) st h = exF ev cL_law 496 ([v0, v1, v2, v3, some (.int x), v5, v6], []) (.int x :: st) h := exF_j (i := (i_iload 4 496)) rfl rfl
theorem eL_law_496 {ev : xV} {v0 v1 v2 v3 v4 v5 v6 : Option Value} {st : List Value} {h : xH} : exF ev cL_law 496 ([v0, v1, v2, v3, v4, v5, v6], []) st h = exF ev cL_law 497 ([v0, v1, v2, v3, v4, v5, v6], []) (.int (nI 1) :: st) h := exF_j (i := (i_const (.int (nI 1)) 497)) rfl rfl
theorem eL_law_497 {ev : xV} {v0 v1 v2 v3 v4 v5 v6 : Option Value} {x y : Int32} {st : List Value} {h : xH} : exF ev cL_law 497 ([v0, v1, v2, v3, v4, v5, v6], []) (.int y :: .int x :: st) h = exF ev cL_law 498 ([v0, v1, v2, v3, v4, v5, v6], []) (.int (x + y) :: st) h := exF_j (i := (i_ii (fun x y => x + y) 498)) rfl rfl
theorem eL_law_498 {ev : xV} {v0 v1 v2 v3 v4 v5 v6 : Option Value} {i : Int32} {a : Nat} {st : List Value} {h : xH} : exF ev cL_law 498 ([v0, v1, v2, v3, v4, v5, v6], []) (.int i :: .ref a :: st) h = xO (xai h 0 a i) (fun v => exF ev cL_law 499 ([v0, v1, v2, v3, v4, v5, v6], []) (.int v :: st) h) := exF_o (i := (i_ai 0 499)) rfl rfl
theorem eL_law_499 {ev : xV} {v1 v2 v3 v4 v5 v6 : Option Value} {x : Nat} {st : List Value} {h : xH} : exF ev cL_law 499 ([some (.ref x), v1, v2, v3, v4, v5, v6], []) st h = exF ev cL_law 500 ([some (.ref x), v1, v2, v3, v4, v5, v6], []) (.ref x :: st) h := exF_j (i := (i_aload 0 500)) rfl rfl
theorem eL_law_500 {ev : xV} {v0 v1 v2 v3 v5 v6 : Option Value} {x : Int32} {st : List Value} {h : xH} : exF ev cL_law 500 ([v0, v1, v2, v3, some (.int x), v5, v6], []) st h = exF ev cL_law 502 ([v0, v1, v2, v3, some (.int x), v5, v6], []) (.int x :: st) h := exF_j (i := (i_iload 4 502)) rfl rfl
theorem eL_law_502 {ev : xV} {v0 v1 v2 v3 v4 v5 v6 : Option Value} {st : List Value} {h : xH} : exF ev cL_law 502 ([v0, v1, v2, v3, v4, v5, v6], []) st h = exF ev cL_law 503 ([v0, v1, v2, v3, v4, v5, v6], []) (.int (nI 2) :: st) h := exF_j (i := (i_const (.int (nI 2)) 503)) rfl rfl
theorem eL_law_503 {ev : xV} {v0 v1 v2 v3 v4 v5 v6 : Option Value} {x y : Int32} {st : List Value} {h : xH} : exF ev cL_law 503 ([v0, v1, v2, v3, v4, v5, v6], []) (.int y :: .int x :: st) h = exF ev cL_law 504 ([v0, v1, v2, v3, v4, v5, v6], []) (.int (x + y) :: st) h := exF_j (i := (i_ii (fun x y => x + y) 504)) rfl rfl
theorem eL_law_504 {ev : xV} {v0 v1 v2 v3 v4 v5 v6 : Option Value} {i : Int32} {a : Nat} {st : List Value} {h : xH} : exF ev cL_law 504 ([v0, v1, v2, v3, v4, v5, v6], []) (.int i :: .ref a :: st) h = xO (xai h 0 a i) (fun v => exF ev cL_law 505 ([v0, v1, v2, v3, v4, v5, v6], []) (.int v :: st) h) := exF_o (i := (i_ai 0 505)) rfl rfl
theorem eL_law_505 {ev : xV} {v0 v1 v2 v3 v4 v5 v6 : Option Value} {a0 : Value} {a1 : Value} {r0 : Value} {a : Nat} {h : xH} : exF ev cL_law 505 ([v0, v1, v2, v3, v4, v5, v6], []) [a1, a0, .ref a, r0] h = xO (xck h a 4) (fun _ => xB (ev 303 [.ref a, a0, a1] h) (fun v h => exF ev cL_law 508 ([v0, v1, v2, v3, v4, v5, v6], []) [v, r0] h)) := exF_cd (i := (i_cv 4 303 2 508)) rfl rfl
theorem eL_law_508 {ev : xV} {v0 v1 v2 v3 v4 v5 v6 : Option Value} {x y : Int32} {st : List Value} {h : xH} : exF ev cL_law 508 ([v0, v1, v2, v3, v4, v5, v6], []) (.int y :: .int x :: st) h = if x = y then exF ev cL_law 1512 ([v0, v1, v2, v3, v4, v5, v6], []) st h else exF ev cL_law 511 ([v0, v1, v2, v3, v4, v5, v6], []) st h := exF_b (i := (i_if2 (fun x y => x = y) 1512 511)) rfl rfl
theorem eL_law_511 {ev : xV} {v0 v1 v2 v3 v4 v5 v6 : Option Value} {st : List Value} {h : xH} : exF ev cL_law 511 ([v0, v1, v2, v3, v4, v5, v6], []) st h = exF ev cL_law 512 ([v0, v1, v2, v3, v4, v5, v6], []) (.int (nI 0) :: st) h := exF_j (i := (i_const (.int (nI 0)) 512)) rfl rfl
theorem eL_law_512 {ev : xV} {v0 v1 v2 v3 v4 v5 v6 : Option Value} {x : Int32} {h : xH} : exF ev cL_law 512 ([v0, v1, v2, v3, v4, v5, v6], []) [.int x] h = if x = nI 0 ∨ x = nI 1 then some (.inl (some (.int x)), h) else none := exF_z (i := (i_zret)) rfl rfl
theorem eL_law_512b0 {ev : xV} {v0 v1 v2 v3 v4 v5 v6 : Option Value} {h : xH} : exF ev cL_law 512 ([v0, v1, v2, v3, v4, v5, v6], []) [.int (nI 0)] h = some (.inl (some (.int (nI 0))), h) := exF_r (i := (i_zret)) rfl i_zret_0
theorem eL_law_512b1 {ev : xV} {v0 v1 v2 v3 v4 v5 v6 : Option Value} {h : xH} : exF ev cL_law 512 ([v0, v1, v2, v3, v4, v5, v6], []) [.int (nI 1)] h = some (.inl (some (.int (nI 1))), h) := exF_r (i := (i_zret)) rfl i_zret_1
theorem eL_law_512b {ev : xV} {v0 v1 v2 v3 v4 v5 v6 : Option Value} {b : Bool} {h : xH} : exF ev cL_law 512 ([v0, v1, v2, v3, v4, v5, v6], []) [.int (bI b)] h = some (.inl (some (.int (bI b))), h) := exF_r (i := (i_zret)) rfl (i_zret_b b)
theorem eL_law_513 {ev : xV} {v0 v2 v3 v4 v5 v6 : Option Value} {x : Nat} {st : List Value} {h : xH} : exF ev cL_law 513 ([v0, some (.ref x), v2, v3, v4, v5, v6], []) st h = exF ev cL_law 514 ([v0, some (.ref x), v2, v3, v4, v5, v6], []) (.ref x :: st) h := exF_j (i := (i_aload 1 514)) rfl rfl
theorem eL_law_514 {ev : xV} {v1 v2 v3 v4 v5 v6 : Option Value} {x : Nat} {st : List Value} {h : xH} : exF ev cL_law 514 ([some (.ref x), v1, v2, v3, v4, v5, v6], []) st h = exF ev cL_law 515 ([some (.ref x), v1, v2, v3, v4, v5, v6], []) (.ref x :: st) h := exF_j (i := (i_aload 0 515)) rfl rfl
theorem eL_law_515 {ev : xV} {v0 v1 v2 v3 v5 v6 : Option Value} {x : Int32} {st : List Value} {h : xH} : exF ev cL_law 515 ([v0, v1, v2, v3, some (.int x), v5, v6], []) st h = exF ev cL_law 517 ([v0, v1, v2, v3, some (.int x), v5, v6], []) (.int x :: st) h := exF_j (i := (i_iload 4 517)) rfl rfl
theorem eL_law_517 {ev : xV} {v0 v1 v2 v3 v4 v5 v6 : Option Value} {st : List Value} {h : xH} : exF ev cL_law 517 ([v0, v1, v2, v3, v4, v5, v6], []) st h = exF ev cL_law 518 ([v0, v1, v2, v3, v4, v5, v6], []) (.int (nI 1) :: st) h := exF_j (i := (i_const (.int (nI 1)) 518)) rfl rfl
theorem eL_law_518 {ev : xV} {v0 v1 v2 v3 v4 v5 v6 : Option Value} {x y : Int32} {st : List Value} {h : xH} : exF ev cL_law 518 ([v0, v1, v2, v3, v4, v5, v6], []) (.int y :: .int x :: st) h = exF ev cL_law 519 ([v0, v1, v2, v3, v4, v5, v6], []) (.int (x + y) :: st) h := exF_j (i := (i_ii (fun x y => x + y) 519)) rfl rfl
theorem eL_law_519 {ev : xV} {v0 v1 v2 v3 v4 v5 v6 : Option Value} {i : Int32} {a : Nat} {st : List Value} {h : xH} : exF ev cL_law 519 ([v0, v1, v2, v3, v4, v5, v6], []) (.int i :: .ref a :: st) h = xO (xai h 0 a i) (fun v => exF ev cL_law 520 ([v0, v1, v2, v3, v4, v5, v6], []) (.int v :: st) h) := exF_o (i := (i_ai 0 520)) rfl rfl
theorem eL_law_520 {ev : xV} {v0 v1 v2 v3 v4 v5 v6 : Option Value} {a0 : Value} {a : Nat} {h : xH} : exF ev cL_law 520 ([v0, v1, v2, v3, v4, v5, v6], []) [a0, .ref a] h = xO (xck h a 0) (fun _ => xB (ev 111 [.ref a, a0] h) (fun v h => exF ev cL_law 523 ([v0, v1, v2, v3, v4, v5, v6], []) [v] h)) := exF_cd (i := (i_cv 0 111 1 523)) rfl rfl
theorem eL_law_523 {ev : xV} {v0 v1 v3 v4 v5 v6 : Option Value} {x : Nat} {st : List Value} {h : xH} : exF ev cL_law 523 ([v0, v1, some (.ref x), v3, v4, v5, v6], []) st h = exF ev cL_law 524 ([v0, v1, some (.ref x), v3, v4, v5, v6], []) (.ref x :: st) h := exF_j (i := (i_aload 2 524)) rfl rfl
theorem eL_law_524 {ev : xV} {v1 v2 v3 v4 v5 v6 : Option Value} {x : Nat} {st : List Value} {h : xH} : exF ev cL_law 524 ([some (.ref x), v1, v2, v3, v4, v5, v6], []) st h = exF ev cL_law 525 ([some (.ref x), v1, v2, v3, v4, v5, v6], []) (.ref x :: st) h := exF_j (i := (i_aload 0 525)) rfl rfl
theorem eL_law_525 {ev : xV} {v0 v1 v2 v3 v5 v6 : Option Value} {x : Int32} {st : List Value} {h : xH} : exF ev cL_law 525 ([v0, v1, v2, v3, some (.int x), v5, v6], []) st h = exF ev cL_law 527 ([v0, v1, v2, v3, some (.int x), v5, v6], []) (.int x :: st) h := exF_j (i := (i_iload 4 527)) rfl rfl
theorem eL_law_527 {ev : xV} {v0 v1 v2 v3 v4 v5 v6 : Option Value} {st : List Value} {h : xH} : exF ev cL_law 527 ([v0, v1, v2, v3, v4, v5, v6], []) st h = exF ev cL_law 528 ([v0, v1, v2, v3, v4, v5, v6], []) (.int (nI 1) :: st) h := exF_j (i := (i_const (.int (nI 1)) 528)) rfl rfl
theorem eL_law_528 {ev : xV} {v0 v1 v2 v3 v4 v5 v6 : Option Value} {x y : Int32} {st : List Value} {h : xH} : exF ev cL_law 528 ([v0, v1, v2, v3, v4, v5, v6], []) (.int y :: .int x :: st) h = exF ev cL_law 529 ([v0, v1, v2, v3, v4, v5, v6], []) (.int (x + y) :: st) h := exF_j (i := (i_ii (fun x y => x + y) 529)) rfl rfl
theorem eL_law_529 {ev : xV} {v0 v1 v2 v3 v4 v5 v6 : Option Value} {i : Int32} {a : Nat} {st : List Value} {h : xH} : exF ev cL_law 529 ([v0, v1, v2, v3, v4, v5, v6], []) (.int i :: .ref a :: st) h = xO (xai h 0 a i) (fun v => exF ev cL_law 530 ([v0, v1, v2, v3, v4, v5, v6], []) (.int v :: st) h) := exF_o (i := (i_ai 0 530)) rfl rfl
theorem eL_law_530 {ev : xV} {v0 v1 v2 v3 v4 v5 v6 : Option Value} {a0 : Value} {r0 : Value} {a : Nat} {h : xH} : exF ev cL_law 530 ([v0, v1, v2, v3, v4, v5, v6], []) [a0, .ref a, r0] h = xO (xck h a 4) (fun _ => xB (ev 307 [.ref a, a0] h) (fun v h => exF ev cL_law 533 ([v0, v1, v2, v3, v4, v5, v6], []) [v, r0] h)) := exF_cd (i := (i_cv 4 307 1 533)) rfl rfl
theorem eL_law_533 {ev : xV} {v0 v1 v2 v3 v4 v5 v6 : Option Value} {x y : Int32} {st : List Value} {h : xH} : exF ev cL_law 533 ([v0, v1, v2, v3, v4, v5, v6], []) (.int y :: .int x :: st) h = if x = y then exF ev cL_law 1512 ([v0, v1, v2, v3, v4, v5, v6], []) st h else exF ev cL_law 536 ([v0, v1, v2, v3, v4, v5, v6], []) st h := exF_b (i := (i_if2 (fun x y => x = y) 1512 536)) rfl rfl
theorem eL_law_536 {ev : xV} {v0 v1 v2 v3 v4 v5 v6 : Option Value} {st : List Value} {h : xH} : exF ev cL_law 536 ([v0, v1, v2, v3, v4, v5, v6], []) st h = exF ev cL_law 537 ([v0, v1, v2, v3, v4, v5, v6], []) (.int (nI 0) :: st) h := exF_j (i := (i_const (.int (nI 0)) 537)) rfl rfl
theorem eL_law_537 {ev : xV} {v0 v1 v2 v3 v4 v5 v6 : Option Value} {x : Int32} {h : xH} : exF ev cL_law 537 ([v0, v1, v2, v3, v4, v5, v6], []) [.int x] h = if x = nI 0 ∨ x = nI 1 then some (.inl (some (.int x)), h) else none := exF_z (i := (i_zret)) rfl rfl
theorem eL_law_537b0 {ev : xV} {v0 v1 v2 v3 v4 v5 v6 : Option Value} {h : xH} : exF ev cL_law 537 ([v0, v1, v2, v3, v4, v5, v6], []) [.int (nI 0)] h = some (.inl (some (.int (nI 0))), h) := exF_r (i := (i_zret)) rfl i_zret_0
theorem eL_law_537b1 {ev : xV} {v0 v1 v2 v3 v4 v5 v6 : Option Value} {h : xH} : exF ev cL_law 537 ([v0, v1, v2, v3, v4, v5, v6], []) [.int (nI 1)] h = some (.inl (some (.int (nI 1))), h) := exF_r (i := (i_zret)) rfl i_zret_1
theorem eL_law_537b {ev : xV} {v0 v1 v2 v3 v4 v5 v6 : Option Value} {b : Bool} {h : xH} : exF ev cL_law 537 ([v0, v1, v2, v3, v4, v5, v6], []) [.int (bI b)] h = some (.inl (some (.int (bI b))), h) := exF_r (i := (i_zret)) rfl (i_zret_b b)
theorem eL_law_538 {ev : xV} {v0 v2 v3 v4 v5 v6 : Option Value} {x : Nat} {st : List Value} {h : xH} : exF ev cL_law 538 ([v0, some (.ref x), v2, v3, v4, v5, v6], []) st h = exF ev cL_law 539 ([v0, some (.ref x), v2, v3, v4, v5, v6], []) (.ref x :: st) h := exF_j (i := (i_aload 1 539)) rfl rfl
theorem eL_law_539 {ev : xV} {v1 v2 v3 v4 v5 v6 : Option Value} {x : Nat} {st : List Value} {h : xH} : exF ev cL_law 539 ([some (.ref x), v1, v2, v3, v4, v5, v6], []) st h = exF ev cL_law 540 ([some (.ref x), v1, v2, v3, v4, v5, v6], []) (.ref x :: st) h := exF_j (i := (i_aload 0 540)) rfl rfl
theorem eL_law_540 {ev : xV} {v0 v1 v2 v3 v5 v6 : Option Value} {x : Int32} {st : List Value} {h : xH} : exF ev cL_law 540 ([v0, v1, v2, v3, some (.int x), v5, v6], []) st h = exF ev cL_law 542 ([v0, v1, v2, v3, some (.int x), v5, v6], []) (.int x :: st) h := exF_j (i := (i_iload 4 542)) rfl rfl
theorem eL_law_542 {ev : xV} {v0 v1 v2 v3 v4 v5 v6 : Option Value} {st : List Value} {h : xH} : exF ev cL_law 542 ([v0, v1, v2, v3, v4, v5, v6], []) st h = exF ev cL_law 543 ([v0, v1, v2, v3, v4, v5, v6], []) (.int (nI 1) :: st) h := exF_j (i := (i_const (.int (nI 1)) 543)) rfl rfl
theorem eL_law_543 {ev : xV} {v0 v1 v2 v3 v4 v5 v6 : Option Value} {x y : Int32} {st : List Value} {h : xH} : exF ev cL_law 543 ([v0, v1, v2, v3, v4, v5, v6], []) (.int y :: .int x :: st) h = exF ev cL_law 544 ([v0, v1, v2, v3, v4, v5, v6], []) (.int (x + y) :: st) h := exF_j (i := (i_ii (fun x y => x + y) 544)) rfl rfl
theorem eL_law_544 {ev : xV} {v0 v1 v2 v3 v4 v5 v6 : Option Value} {i : Int32} {a : Nat} {st : List Value} {h : xH} : exF ev cL_law 544 ([v0, v1, v2, v3, v4, v5, v6], []) (.int i :: .ref a :: st) h = xO (xai h 0 a i) (fun v => exF ev cL_law 545 ([v0, v1, v2, v3, v4, v5, v6], []) (.int v :: st) h) := exF_o (i := (i_ai 0 545)) rfl rfl
theorem eL_law_545 {ev : xV} {v0 v1 v2 v3 v4 v5 v6 : Option Value} {a0 : Value} {a : Nat} {h : xH} : exF ev cL_law 545 ([v0, v1, v2, v3, v4, v5, v6], []) [a0, .ref a] h = xO (xck h a 0) (fun _ => xB (ev 112 [.ref a, a0] h) (fun v h => exF ev cL_law 548 ([v0, v1, v2, v3, v4, v5, v6], []) [v] h)) := exF_cd (i := (i_cv 0 112 1 548)) rfl rfl
theorem eL_law_548 {ev : xV} {v0 v1 v3 v4 v5 v6 : Option Value} {x : Nat} {st : List Value} {h : xH} : exF ev cL_law 548 ([v0, v1, some (.ref x), v3, v4, v5, v6], []) st h = exF ev cL_law 549 ([v0, v1, some (.ref x), v3, v4, v5, v6], []) (.ref x :: st) h := exF_j (i := (i_aload 2 549)) rfl rfl
theorem eL_law_549 {ev : xV} {v1 v2 v3 v4 v5 v6 : Option Value} {x : Nat} {st : List Value} {h : xH} : exF ev cL_law 549 ([some (.ref x), v1, v2, v3, v4, v5, v6], []) st h = exF ev cL_law 550 ([some (.ref x), v1, v2, v3, v4, v5, v6], []) (.ref x :: st) h := exF_j (i := (i_aload 0 550)) rfl rfl
theorem eL_law_550 {ev : xV} {v0 v1 v2 v3 v5 v6 : Option Value} {x : Int32} {st : List Value} {h : xH} : exF ev cL_law 550 ([v0, v1, v2, v3, some (.int x), v5, v6], []) st h = exF ev cL_law 552 ([v0, v1, v2, v3, some (.int x), v5, v6], []) (.int x :: st) h := exF_j (i := (i_iload 4 552)) rfl rfl
theorem eL_law_552 {ev : xV} {v0 v1 v2 v3 v4 v5 v6 : Option Value} {st : List Value} {h : xH} : exF ev cL_law 552 ([v0, v1, v2, v3, v4, v5, v6], []) st h = exF ev cL_law 553 ([v0, v1, v2, v3, v4, v5, v6], []) (.int (nI 1) :: st) h := exF_j (i := (i_const (.int (nI 1)) 553)) rfl rfl
theorem eL_law_553 {ev : xV} {v0 v1 v2 v3 v4 v5 v6 : Option Value} {x y : Int32} {st : List Value} {h : xH} : exF ev cL_law 553 ([v0, v1, v2, v3, v4, v5, v6], []) (.int y :: .int x :: st) h = exF ev cL_law 554 ([v0, v1, v2, v3, v4, v5, v6], []) (.int (x + y) :: st) h := exF_j (i := (i_ii (fun x y => x + y) 554)) rfl rfl
theorem eL_law_554 {ev : xV} {v0 v1 v2 v3 v4 v5 v6 : Option Value} {i : Int32} {a : Nat} {st : List Value} {h : xH} : exF ev cL_law 554 ([v0, v1, v2, v3, v4, v5, v6], []) (.int i :: .ref a :: st) h = xO (xai h 0 a i) (fun v => exF ev cL_law 555 ([v0, v1, v2, v3, v4, v5, v6], []) (.int v :: st) h) := exF_o (i := (i_ai 0 555)) rfl rfl
theorem eL_law_555 {ev : xV} {v0 v1 v2 v3 v4 v5 v6 : Option Value} {a0 : Value} {r0 : Value} {a : Nat} {h : xH} : exF ev cL_law 555 ([v0, v1, v2, v3, v4, v5, v6], []) [a0, .ref a, r0] h = xO (xck h a 4) (fun _ => xB (ev 308 [.ref a, a0] h) (fun v h => exF ev cL_law 558 ([v0, v1, v2, v3, v4, v5, v6], []) [v, r0] h)) := exF_cd (i := (i_cv 4 308 1 558)) rfl rfl
theorem eL_law_558 {ev : xV} {v0 v1 v2 v3 v4 v5 v6 : Option Value} {x y : Int32} {st : List Value} {h : xH} : exF ev cL_law 558 ([v0, v1, v2, v3, v4, v5, v6], []) (.int y :: .int x :: st) h = if x = y then exF ev cL_law 1512 ([v0, v1, v2, v3, v4, v5, v6], []) st h else exF ev cL_law 561 ([v0, v1, v2, v3, v4, v5, v6], []) st h := exF_b (i := (i_if2 (fun x y => x = y) 1512 561)) rfl rfl
theorem eL_law_561 {ev : xV} {v0 v1 v2 v3 v4 v5 v6 : Option Value} {st : List Value} {h : xH} : exF ev cL_law 561 ([v0, v1, v2, v3, v4, v5, v6], []) st h = exF ev cL_law 562 ([v0, v1, v2, v3, v4, v5, v6], []) (.int (nI 0) :: st) h := exF_j (i := (i_const (.int (nI 0)) 562)) rfl rfl
theorem eL_law_562 {ev : xV} {v0 v1 v2 v3 v4 v5 v6 : Option Value} {x : Int32} {h : xH} : exF ev cL_law 562 ([v0, v1, v2, v3, v4, v5, v6], []) [.int x] h = if x = nI 0 ∨ x = nI 1 then some (.inl (some (.int x)), h) else none := exF_z (i := (i_zret)) rfl rfl
theorem eL_law_562b0 {ev : xV} {v0 v1 v2 v3 v4 v5 v6 : Option Value} {h : xH} : exF ev cL_law 562 ([v0, v1, v2, v3, v4, v5, v6], []) [.int (nI 0)] h = some (.inl (some (.int (nI 0))), h) := exF_r (i := (i_zret)) rfl i_zret_0
theorem eL_law_562b1 {ev : xV} {v0 v1 v2 v3 v4 v5 v6 : Option Value} {h : xH} : exF ev cL_law 562 ([v0, v1, v2, v3, v4, v5, v6], []) [.int (nI 1)] h = some (.inl (some (.int (nI 1))), h) := exF_r (i := (i_zret)) rfl i_zret_1
theorem eL_law_562b {ev : xV} {v0 v1 v2 v3 v4 v5 v6 : Option Value} {b : Bool} {h : xH} : exF ev cL_law 562 ([v0, v1, v2, v3, v4, v5, v6], []) [.int (bI b)] h = some (.inl (some (.int (bI b))), h) := exF_r (i := (i_zret)) rfl (i_zret_b b)
theorem eL_law_563 {ev : xV} {v0 v2 v3 v4 v5 v6 : Option Value} {x : Nat} {st : List Value} {h : xH} : exF ev cL_law 563 ([v0, some (.ref x), v2, v3, v4, v5, v6], []) st h = exF ev cL_law 564 ([v0, some (.ref x), v2, v3, v4, v5, v6], []) (.ref x :: st) h := exF_j (i := (i_aload 1 564)) rfl rfl
theorem eL_law_564 {ev : xV} {v1 v2 v3 v4 v5 v6 : Option Value} {x : Nat} {st : List Value} {h : xH} : exF ev cL_law 564 ([some (.ref x), v1, v2, v3, v4, v5, v6], []) st h = exF ev cL_law 565 ([some (.ref x), v1, v2, v3, v4, v5, v6], []) (.ref x :: st) h := exF_j (i := (i_aload 0 565)) rfl rfl
theorem eL_law_565 {ev : xV} {v0 v1 v2 v3 v5 v6 : Option Value} {x : Int32} {st : List Value} {h : xH} : exF ev cL_law 565 ([v0, v1, v2, v3, some (.int x), v5, v6], []) st h = exF ev cL_law 567 ([v0, v1, v2, v3, some (.int x), v5, v6], []) (.int x :: st) h := exF_j (i := (i_iload 4 567)) rfl rfl
theorem eL_law_567 {ev : xV} {v0 v1 v2 v3 v4 v5 v6 : Option Value} {st : List Value} {h : xH} : exF ev cL_law 567 ([v0, v1, v2, v3, v4, v5, v6], []) st h = exF ev cL_law 568 ([v0, v1, v2, v3, v4, v5, v6], []) (.int (nI 1) :: st) h := exF_j (i := (i_const (.int (nI 1)) 568)) rfl rfl
theorem eL_law_568 {ev : xV} {v0 v1 v2 v3 v4 v5 v6 : Option Value} {x y : Int32} {st : List Value} {h : xH} : exF ev cL_law 568 ([v0, v1, v2, v3, v4, v5, v6], []) (.int y :: .int x :: st) h = exF ev cL_law 569 ([v0, v1, v2, v3, v4, v5, v6], []) (.int (x + y) :: st) h := exF_j (i := (i_ii (fun x y => x + y) 569)) rfl rfl
theorem eL_law_569 {ev : xV} {v0 v1 v2 v3 v4 v5 v6 : Option Value} {i : Int32} {a : Nat} {st : List Value} {h : xH} : exF ev cL_law 569 ([v0, v1, v2, v3, v4, v5, v6], []) (.int i :: .ref a :: st) h = xO (xai h 0 a i) (fun v => exF ev cL_law 570 ([v0, v1, v2, v3, v4, v5, v6], []) (.int v :: st) h) := exF_o (i := (i_ai 0 570)) rfl rfl
theorem eL_law_570 {ev : xV} {v0 v1 v2 v3 v4 v5 v6 : Option Value} {a0 : Value} {a : Nat} {h : xH} : exF ev cL_law 570 ([v0, v1, v2, v3, v4, v5, v6], []) [a0, .ref a] h = xO (xck h a 0) (fun _ => xB (ev 113 [.ref a, a0] h) (fun v h => exF ev cL_law 573 ([v0, v1, v2, v3, v4, v5, v6], []) [v] h)) := exF_cd (i := (i_cv 0 113 1 573)) rfl rfl
theorem eL_law_573 {ev : xV} {v0 v1 v3 v4 v5 v6 : Option Value} {x : Nat} {st : List Value} {h : xH} : exF ev cL_law 573 ([v0, v1, some (.ref x), v3, v4, v5, v6], []) st h = exF ev cL_law 574 ([v0, v1, some (.ref x), v3, v4, v5, v6], []) (.ref x :: st) h := exF_j (i := (i_aload 2 574)) rfl rfl
theorem eL_law_574 {ev : xV} {v1 v2 v3 v4 v5 v6 : Option Value} {x : Nat} {st : List Value} {h : xH} : exF ev cL_law 574 ([some (.ref x), v1, v2, v3, v4, v5, v6], []) st h = exF ev cL_law 575 ([some (.ref x), v1, v2, v3, v4, v5, v6], []) (.ref x :: st) h := exF_j (i := (i_aload 0 575)) rfl rfl
theorem eL_law_575 {ev : xV} {v0 v1 v2 v3 v5 v6 : Option Value} {x : Int32} {st : List Value} {h : xH} : exF ev cL_law 575 ([v0, v1, v2, v3, some (.int x), v5, v6], []) st h = exF ev cL_law 577 ([v0, v1, v2, v3, some (.int x), v5, v6], []) (.int x :: st) h := exF_j (i := (i_iload 4 577)) rfl rfl
theorem eL_law_577 {ev : xV} {v0 v1 v2 v3 v4 v5 v6 : Option Value} {st : List Value} {h : xH} : exF ev cL_law 577 ([v0, v1, v2, v3, v4, v5, v6], []) st h = exF ev cL_law 578 ([v0, v1, v2, v3, v4, v5, v6], []) (.int (nI 1) :: st) h := exF_j (i := (i_const (.int (nI 1)) 578)) rfl rfl
theorem eL_law_578 {ev : xV} {v0 v1 v2 v3 v4 v5 v6 : Option Value} {x y : Int32} {st : List Value} {h : xH} : exF ev cL_law 578 ([v0, v1, v2, v3, v4, v5, v6], []) (.int y :: .int x :: st) h = exF ev cL_law 579 ([v0, v1, v2, v3, v4, v5, v6], []) (.int (x + y) :: st) h := exF_j (i := (i_ii (fun x y => x + y) 579)) rfl rfl
theorem eL_law_579 {ev : xV} {v0 v1 v2 v3 v4 v5 v6 : Option Value} {i : Int32} {a : Nat} {st : List Value} {h : xH} : exF ev cL_law 579 ([v0, v1, v2, v3, v4, v5, v6], []) (.int i :: .ref a :: st) h = xO (xai h 0 a i) (fun v => exF ev cL_law 580 ([v0, v1, v2, v3, v4, v5, v6], []) (.int v :: st) h) := exF_o (i := (i_ai 0 580)) rfl rfl
theorem eL_law_580 {ev : xV} {v0 v1 v2 v3 v4 v5 v6 : Option Value} {a0 : Value} {r0 : Value} {a : Nat} {h : xH} : exF ev cL_law 580 ([v0, v1, v2, v3, v4, v5, v6], []) [a0, .ref a, r0] h = xO (xck h a 4) (fun _ => xB (ev 310 [.ref a, a0] h) (fun v h => exF ev cL_law 583 ([v0, v1, v2, v3, v4, v5, v6], []) [v, r0] h)) := exF_cd (i := (i_cv 4 310 1 583)) rfl rfl
theorem eL_law_583 {ev : xV} {v0 v1 v2 v3 v4 v5 v6 : Option Value} {x y : Int32} {st : List Value} {h : xH} : exF ev cL_law 583 ([v0, v1, v2, v3, v4, v5, v6], []) (.int y :: .int x :: st) h = if x = y then exF ev cL_law 1512 ([v0, v1, v2, v3, v4, v5, v6], []) st h else exF ev cL_law 586 ([v0, v1, v2, v3, v4, v5, v6], []) st h := exF_b (i := (i_if2 (fun x y => x = y) 1512 586)) rfl rfl
theorem eL_law_586 {ev : xV} {v0 v1 v2 v3 v4 v5 v6 : Option Value} {st : List Value} {h : xH} : exF ev cL_law 586 ([v0, v1, v2, v3, v4, v5, v6], []) st h = exF ev cL_law 587 ([v0, v1, v2, v3, v4, v5, v6], []) (.int (nI 0) :: st) h := exF_j (i := (i_const (.int (nI 0)) 587)) rfl rfl
theorem eL_law_587 {ev : xV} {v0 v1 v2 v3 v4 v5 v6 : Option Value} {x : Int32} {h : xH} : exF ev cL_law 587 ([v0, v1, v2, v3, v4, v5, v6], []) [.int x] h = if x = nI 0 ∨ x = nI 1 then some (.inl (some (.int x)), h) else none := exF_z (i := (i_zret)) rfl rfl
theorem eL_law_587b0 {ev : xV} {v0 v1 v2 v3 v4 v5 v6 : Option Value} {h : xH} : exF ev cL_law 587 ([v0, v1, v2, v3, v4, v5, v6], []) [.int (nI 0)] h = some (.inl (some (.int (nI 0))), h) := exF_r (i := (i_zret)) rfl i_zret_0
theorem eL_law_587b1 {ev : xV} {v0 v1 v2 v3 v4 v5 v6 : Option Value} {h : xH} : exF ev cL_law 587 ([v0, v1, v2, v3, v4, v5, v6], []) [.int (nI 1)] h = some (.inl (some (.int (nI 1))), h) := exF_r (i := (i_zret)) rfl i_zret_1
theorem eL_law_587b {ev : xV} {v0 v1 v2 v3 v4 v5 v6 : Option Value} {b : Bool} {h : xH} : exF ev cL_law 587 ([v0, v1, v2, v3, v4, v5, v6], []) [.int (bI b)] h = some (.inl (some (.int (bI b))), h) := exF_r (i := (i_zret)) rfl (i_zret_b b)
theorem eL_law_588 {ev : xV} {v0 v2 v3 v4 v5 v6 : Option Value} {x : Nat} {st : List Value} {h : xH} : exF ev cL_law 588 ([v0, some (.ref x), v2, v3, v4, v5, v6], []) st h = exF ev cL_law 589 ([v0, some (.ref x), v2, v3, v4, v5, v6], []) (.ref x :: st) h := exF_j (i := (i_aload 1 589)) rfl rfl
theorem eL_law_589 {ev : xV} {v0 v1 v2 v3 v4 v5 v6 : Option Value} {a : Nat} {h : xH} : exF ev cL_law 589 ([v0, v1, v2, v3, v4, v5, v6], []) [.ref a] h = xO (xck h a 0) (fun _ => xB (ev 114 [.ref a] h) (fun v h => exF ev cL_law 592 ([v0, v1, v2, v3, v4, v5, v6], []) [v] h)) := exF_cd (i := (i_cv 0 114 0 592)) rfl rfl
theorem eL_law_592 {ev : xV} {v0 v1 v3 v4 v5 v6 : Option Value} {x : Nat} {st : List Value} {h : xH} : exF ev cL_law 592 ([v0, v1, some (.ref x), v3, v4, v5, v6], []) st h = exF ev cL_law 593 ([v0, v1, some (.ref x), v3, v4, v5, v6], []) (.ref x :: st) h := exF_j (i := (i_aload 2 593)) rfl rfl
theorem eL_law_593 {ev : xV} {v0 v1 v2 v3 v4 v5 v6 : Option Value} {r0 : Value} {a : Nat} {h : xH} : exF ev cL_law 593 ([v0, v1, v2, v3, v4, v5, v6], []) [.ref a, r0] h = xO (xck h a 4) (fun _ => xB (ev 312 [.ref a] h) (fun v h => exF ev cL_law 596 ([v0, v1, v2, v3, v4, v5, v6], []) [v, r0] h)) := exF_cd (i := (i_cv 4 312 0 596)) rfl rfl
theorem eL_law_596 {ev : xV} {v0 v1 v2 v3 v4 v5 v6 : Option Value} {x y : Int32} {st : List Value} {h : xH} : exF ev cL_law 596 ([v0, v1, v2, v3, v4, v5, v6], []) (.int y :: .int x :: st) h = if x = y then exF ev cL_law 1512 ([v0, v1, v2, v3, v4, v5, v6], []) st h else exF ev cL_law 599 ([v0, v1, v2, v3, v4, v5, v6], []) st h := exF_b (i := (i_if2 (fun x y => x = y) 1512 599)) rfl rfl
theorem eL_law_599 {ev : xV} {v0 v1 v2 v3 v4 v5 v6 : Option Value} {st : List Value} {h : xH} : exF ev cL_law 599 ([v0, v1, v2, v3, v4, v5, v6], []) st h = exF ev cL_law 600 ([v0, v1, v2, v3, v4, v5, v6], []) (.int (nI 0) :: st) h := exF_j (i := (i_const (.int (nI 0)) 600)) rfl rfl
theorem eL_law_600 {ev : xV} {v0 v1 v2 v3 v4 v5 v6 : Option Value} {x : Int32} {h : xH} : exF ev cL_law 600 ([v0, v1, v2, v3, v4, v5, v6], []) [.int x] h = if x = nI 0 ∨ x = nI 1 then some (.inl (some (.int x)), h) else none := exF_z (i := (i_zret)) rfl rfl
theorem eL_law_600b0 {ev : xV} {v0 v1 v2 v3 v4 v5 v6 : Option Value} {h : xH} : exF ev cL_law 600 ([v0, v1, v2, v3, v4, v5, v6], []) [.int (nI 0)] h = some (.inl (some (.int (nI 0))), h) := exF_r (i := (i_zret)) rfl i_zret_0
theorem eL_law_600b1 {ev : xV} {v0 v1 v2 v3 v4 v5 v6 : Option Value} {h : xH} : exF ev cL_law 600 ([v0, v1, v2, v3, v4, v5, v6], []) [.int (nI 1)] h = some (.inl (some (.int (nI 1))), h) := exF_r (i := (i_zret)) rfl i_zret_1
theorem eL_law_600b {ev : xV} {v0 v1 v2 v3 v4 v5 v6 : Option Value} {b : Bool} {h : xH} : exF ev cL_law 600 ([v0, v1, v2, v3, v4, v5, v6], []) [.int (bI b)] h = some (.inl (some (.int (bI b))), h) := exF_r (i := (i_zret)) rfl (i_zret_b b)
theorem eL_law_601 {ev : xV} {v0 v2 v3 v4 v5 v6 : Option Value} {x : Nat} {st : List Value} {h : xH} : exF ev cL_law 601 ([v0, some (.ref x), v2, v3, v4, v5, v6], []) st h = exF ev cL_law 602 ([v0, some (.ref x), v2, v3, v4, v5, v6], []) (.ref x :: st) h := exF_j (i := (i_aload 1 602)) rfl rfl
theorem eL_law_602 {ev : xV} {v1 v2 v3 v4 v5 v6 : Option Value} {x : Nat} {st : List Value} {h : xH} : exF ev cL_law 602 ([some (.ref x), v1, v2, v3, v4, v5, v6], []) st h = exF ev cL_law 603 ([some (.ref x), v1, v2, v3, v4, v5, v6], []) (.ref x :: st) h := exF_j (i := (i_aload 0 603)) rfl rfl
theorem eL_law_603 {ev : xV} {v0 v1 v2 v3 v5 v6 : Option Value} {x : Int32} {st : List Value} {h : xH} : exF ev cL_law 603 ([v0, v1, v2, v3, some (.int x), v5, v6], []) st h = exF ev cL_law 605 ([v0, v1, v2, v3, some (.int x), v5, v6], []) (.int x :: st) h := exF_j (i := (i_iload 4 605)) rfl rfl
theorem eL_law_605 {ev : xV} {v0 v1 v2 v3 v4 v5 v6 : Option Value} {st : List Value} {h : xH} : exF ev cL_law 605 ([v0, v1, v2, v3, v4, v5, v6], []) st h = exF ev cL_law 606 ([v0, v1, v2, v3, v4, v5, v6], []) (.int (nI 1) :: st) h := exF_j (i := (i_const (.int (nI 1)) 606)) rfl rfl
theorem eL_law_606 {ev : xV} {v0 v1 v2 v3 v4 v5 v6 : Option Value} {x y : Int32} {st : List Value} {h : xH} : exF ev cL_law 606 ([v0, v1, v2, v3, v4, v5, v6], []) (.int y :: .int x :: st) h = exF ev cL_law 607 ([v0, v1, v2, v3, v4, v5, v6], []) (.int (x + y) :: st) h := exF_j (i := (i_ii (fun x y => x + y) 607)) rfl rfl
theorem eL_law_607 {ev : xV} {v0 v1 v2 v3 v4 v5 v6 : Option Value} {i : Int32} {a : Nat} {st : List Value} {h : xH} : exF ev cL_law 607 ([v0, v1, v2, v3, v4, v5, v6], []) (.int i :: .ref a :: st) h = xO (xai h 0 a i) (fun v => exF ev cL_law 608 ([v0, v1, v2, v3, v4, v5, v6], []) (.int v :: st) h) := exF_o (i := (i_ai 0 608)) rfl rfl
theorem eL_law_608 {ev : xV} {v0 v1 v2 v3 v4 v5 v6 : Option Value} {a0 : Value} {a : Nat} {h : xH} : exF ev cL_law 608 ([v0, v1, v2, v3, v4, v5, v6], []) [a0, .ref a] h = xO (xck h a 0) (fun _ => xB (ev 115 [.ref a, a0] h) (fun v h => exF ev cL_law 611 ([v0, v1, v2, v3, v4, v5, v6], []) [v] h)) := exF_cd (i := (i_cv 0 115 1 611)) rfl rfl
theorem eL_law_611 {ev : xV} {v0 v1 v3 v4 v5 v6 : Option Value} {x : Nat} {st : List Value} {h : xH} : exF ev cL_law 611 ([v0, v1, some (.ref x), v3, v4, v5, v6], []) st h = exF ev cL_law 612 ([v0, v1, some (.ref x), v3, v4, v5, v6], []) (.ref x :: st) h := exF_j (i := (i_aload 2 612)) rfl rfl
theorem eL_law_612 {ev : xV} {v1 v2 v3 v4 v5 v6 : Option Value} {x : Nat} {st : List Value} {h : xH} : exF ev cL_law 612 ([some (.ref x), v1, v2, v3, v4, v5, v6], []) st h = exF ev cL_law 613 ([some (.ref x), v1, v2, v3, v4, v5, v6], []) (.ref x :: st) h := exF_j (i := (i_aload 0 613)) rfl rfl
theorem eL_law_613 {ev : xV} {v0 v1 v2 v3 v5 v6 : Option Value} {x : Int32} {st : List Value} {h : xH} : exF ev cL_law 613 ([v0, v1, v2, v3, some (.int x), v5, v6], []) st h = exF ev cL_law 615 ([v0, v1, v2, v3, some (.int x), v5, v6], []) (.int x :: st) h := exF_j (i := (i_iload 4 615)) rfl rfl
theorem eL_law_615 {ev : xV} {v0 v1 v2 v3 v4 v5 v6 : Option Value} {st : List Value} {h : xH} : exF ev cL_law 615 ([v0, v1, v2, v3, v4, v5, v6], []) st h = exF ev cL_law 616 ([v0, v1, v2, v3, v4, v5, v6], []) (.int (nI 1) :: st) h := exF_j (i := (i_const (.int (nI 1)) 616)) rfl rfl
theorem eL_law_616 {ev : xV} {v0 v1 v2 v3 v4 v5 v6 : Option Value} {x y : Int32} {st : List Value} {h : xH} : exF ev cL_law 616 ([v0, v1, v2, v3, v4, v5, v6], []) (.int y :: .int x :: st) h = exF ev cL_law 617 ([v0, v1, v2, v3, v4, v5, v6], []) (.int (x + y) :: st) h := exF_j (i := (i_ii (fun x y => x + y) 617)) rfl rfl
theorem eL_law_617 {ev : xV} {v0 v1 v2 v3 v4 v5 v6 : Option Value} {i : Int32} {a : Nat} {st : List Value} {h : xH} : exF ev cL_law 617 ([v0, v1, v2, v3, v4, v5, v6], []) (.int i :: .ref a :: st) h = xO (xai h 0 a i) (fun v => exF ev cL_law 618 ([v0, v1, v2, v3, v4, v5, v6], []) (.int v :: st) h) := exF_o (i := (i_ai 0 618)) rfl rfl
theorem eL_law_618 {ev : xV} {v0 v1 v2 v3 v4 v5 v6 : Option Value} {a0 : Value} {r0 : Value} {a : Nat} {h : xH} : exF ev cL_law 618 ([v0, v1, v2, v3, v4, v5, v6], []) [a0, .ref a, r0] h = xO (xck h a 4) (fun _ => xB (ev 313 [.ref a, a0] h) (fun v h => exF ev cL_law 621 ([v0, v1, v2, v3, v4, v5, v6], []) [v, r0] h)) := exF_cd (i := (i_cv 4 313 1 621)) rfl rfl
theorem eL_law_621 {ev : xV} {v0 v1 v2 v3 v4 v5 v6 : Option Value} {x y : Int32} {st : List Value} {h : xH} : exF ev cL_law 621 ([v0, v1, v2, v3, v4, v5, v6], []) (.int y :: .int x :: st) h = if x = y then exF ev cL_law 1512 ([v0, v1, v2, v3, v4, v5, v6], []) st h else exF ev cL_law 624 ([v0, v1, v2, v3, v4, v5, v6], []) st h := exF_b (i := (i_if2 (fun x y => x = y) 1512 624)) rfl rfl
theorem eL_law_624 {ev : xV} {v0 v1 v2 v3 v4 v5 v6 : Option Value} {st : List Value} {h : xH} : exF ev cL_law 624 ([v0, v1, v2, v3, v4, v5, v6], []) st h = exF ev cL_law 625 ([v0, v1, v2, v3, v4, v5, v6], []) (.int (nI 0) :: st) h := exF_j (i := (i_const (.int (nI 0)) 625)) rfl rfl
theorem eL_law_625 {ev : xV} {v0 v1 v2 v3 v4 v5 v6 : Option Value} {x : Int32} {h : xH} : exF ev cL_law 625 ([v0, v1, v2, v3, v4, v5, v6], []) [.int x] h = if x = nI 0 ∨ x = nI 1 then some (.inl (some (.int x)), h) else none := exF_z (i := (i_zret)) rfl rfl
theorem eL_law_625b0 {ev : xV} {v0 v1 v2 v3 v4 v5 v6 : Option Value} {h : xH} : exF ev cL_law 625 ([v0, v1, v2, v3, v4, v5, v6], []) [.int (nI 0)] h = some (.inl (some (.int (nI 0))), h) := exF_r (i := (i_zret)) rfl i_zret_0
theorem eL_law_625b1 {ev : xV} {v0 v1 v2 v3 v4 v5 v6 : Option Value} {h : xH} : exF ev cL_law 625 ([v0, v1, v2, v3, v4, v5, v6], []) [.int (nI 1)] h = some (.inl (some (.int (nI 1))), h) := exF_r (i := (i_zret)) rfl i_zret_1
theorem eL_law_625b {ev : xV} {v0 v1 v2 v3 v4 v5 v6 : Option Value} {b : Bool} {h : xH} : exF ev cL_law 625 ([v0, v1, v2, v3, v4, v5, v6], []) [.int (bI b)] h = some (.inl (some (.int (bI b))), h) := exF_r (i := (i_zret)) rfl (i_zret_b b)
theorem eL_law_626 {ev : xV} {v0 v2 v3 v4 v5 v6 : Option Value} {x : Nat} {st : List Value} {h : xH} : exF ev cL_law 626 ([v0, some (.ref x), v2, v3, v4, v5, v6], []) st h = exF ev cL_law 627 ([v0, some (.ref x), v2, v3, v4, v5, v6], []) (.ref x :: st) h := exF_j (i := (i_aload 1 627)) rfl rfl
theorem eL_law_627 {ev : xV} {v0 v1 v2 v3 v4 v5 v6 : Option Value} {a : Nat} {h : xH} : exF ev cL_law 627 ([v0, v1, v2, v3, v4, v5, v6], []) [.ref a] h = xO (xck h a 0) (fun _ => xB (ev 117 [.ref a] h) (fun v h => exF ev cL_law 630 ([v0, v1, v2, v3, v4, v5, v6], []) [v] h)) := exF_cd (i := (i_cv 0 117 0 630)) rfl rfl
theorem eL_law_630 {ev : xV} {v0 v1 v3 v4 v5 v6 : Option Value} {x : Nat} {st : List Value} {h : xH} : exF ev cL_law 630 ([v0, v1, some (.ref x), v3, v4, v5, v6], []) st h = exF ev cL_law 631 ([v0, v1, some (.ref x), v3, v4, v5, v6], []) (.ref x :: st) h := exF_j (i := (i_aload 2 631)) rfl rfl
theorem eL_law_631 {ev : xV} {v0 v1 v2 v3 v4 v5 v6 : Option Value} {r0 : Value} {a : Nat} {h : xH} : exF ev cL_law 631 ([v0, v1, v2, v3, v4, v5, v6], []) [.ref a, r0] h = xO (xck h a 4) (fun _ => xB (ev 317 [.ref a] h) (fun v h => exF ev cL_law 634 ([v0, v1, v2, v3, v4, v5, v6], []) [v, r0] h)) := exF_cd (i := (i_cv 4 317 0 634)) rfl rfl
theorem eL_law_634 {ev : xV} {v0 v1 v2 v3 v4 v5 v6 : Option Value} {x y : Int32} {st : List Value} {h : xH} : exF ev cL_law 634 ([v0, v1, v2, v3, v4, v5, v6], []) (.int y :: .int x :: st) h = if x = y then exF ev cL_law 1512 ([v0, v1, v2, v3, v4, v5, v6], []) st h else exF ev cL_law 637 ([v0, v1, v2, v3, v4, v5, v6], []) st h := exF_b (i := (i_if2 (fun x y => x = y) 1512 637)) rfl rfl
theorem eL_law_637 {ev : xV} {v0 v1 v2 v3 v4 v5 v6 : Option Value} {st : List Value} {h : xH} : exF ev cL_law 637 ([v0, v1, v2, v3, v4, v5, v6], []) st h = exF ev cL_law 638 ([v0, v1, v2, v3, v4, v5, v6], []) (.int (nI 0) :: st) h := exF_j (i := (i_const (.int (nI 0)) 638)) rfl rfl
theorem eL_law_638 {ev : xV} {v0 v1 v2 v3 v4 v5 v6 : Option Value} {x : Int32} {h : xH} : exF ev cL_law 638 ([v0, v1, v2, v3, v4, v5, v6], []) [.int x] h = if x = nI 0 ∨ x = nI 1 then some (.inl (some (.int x)), h) else none := exF_z (i := (i_zret)) rfl rfl
theorem eL_law_638b0 {ev : xV} {v0 v1 v2 v3 v4 v5 v6 : Option Value} {h : xH} : exF ev cL_law 638 ([v0, v1, v2, v3, v4, v5, v6], []) [.int (nI 0)] h = some (.inl (some (.int (nI 0))), h) := exF_r (i := (i_zret)) rfl i_zret_0
theorem eL_law_638b1 {ev : xV} {v0 v1 v2 v3 v4 v5 v6 : Option Value} {h : xH} : exF ev cL_law 638 ([v0, v1, v2, v3, v4, v5, v6], []) [.int (nI 1)] h = some (.inl (some (.int (nI 1))), h) := exF_r (i := (i_zret)) rfl i_zret_1
theorem eL_law_638b {ev : xV} {v0 v1 v2 v3 v4 v5 v6 : Option Value} {b : Bool} {h : xH} : exF ev cL_law 638 ([v0, v1, v2, v3, v4, v5, v6], []) [.int (bI b)] h = some (.inl (some (.int (bI b))), h) := exF_r (i := (i_zret)) rfl (i_zret_b b)
theorem eL_law_639 {ev : xV} {v0 v2 v3 v4 v5 v6 : Option Value} {x : Nat} {st : List Value} {h : xH} : exF ev cL_law 639 ([v0, some (.ref x), v2, v3, v4, v5, v6], []) st h = exF ev cL_law 640 ([v0, some (.ref x), v2, v3, v4, v5, v6], []) (.ref x :: st) h := exF_j (i := (i_aload 1 640)) rfl rfl
theorem eL_law_640 {ev : xV} {v1 v2 v3 v4 v5 v6 : Option Value} {x : Nat} {st : List Value} {h : xH} : exF ev cL_law 640 ([some (.ref x), v1, v2, v3, v4, v5, v6], []) st h = exF ev cL_law 641 ([some (.ref x), v1, v2, v3, v4, v5, v6], []) (.ref x :: st) h := exF_j (i := (i_aload 0 641)) rfl rfl
theorem eL_law_641 {ev : xV} {v0 v1 v2 v3 v5 v6 : Option Value} {x : Int32} {st : List Value} {h : xH} : exF ev cL_law 641 ([v0, v1, v2, v3, some (.int x), v5, v6], []) st h = exF ev cL_law 643 ([v0, v1, v2, v3, some (.int x), v5, v6], []) (.int x :: st) h := exF_j (i := (i_iload 4 643)) rfl rfl
theorem eL_law_643 {ev : xV} {v0 v1 v2 v3 v4 v5 v6 : Option Value} {st : List Value} {h : xH} : exF ev cL_law 643 ([v0, v1, v2, v3, v4, v5, v6], []) st h = exF ev cL_law 644 ([v0, v1, v2, v3, v4, v5, v6], []) (.int (nI 1) :: st) h := exF_j (i := (i_const (.int (nI 1)) 644)) rfl rfl
theorem eL_law_644 {ev : xV} {v0 v1 v2 v3 v4 v5 v6 : Option Value} {x y : Int32} {st : List Value} {h : xH} : exF ev cL_law 644 ([v0, v1, v2, v3, v4, v5, v6], []) (.int y :: .int x :: st) h = exF ev cL_law 645 ([v0, v1, v2, v3, v4, v5, v6], []) (.int (x + y) :: st) h := exF_j (i := (i_ii (fun x y => x + y) 645)) rfl rfl
theorem eL_law_645 {ev : xV} {v0 v1 v2 v3 v4 v5 v6 : Option Value} {i : Int32} {a : Nat} {st : List Value} {h : xH} : exF ev cL_law 645 ([v0, v1, v2, v3, v4, v5, v6], []) (.int i :: .ref a :: st) h = xO (xai h 0 a i) (fun v => exF ev cL_law 646 ([v0, v1, v2, v3, v4, v5, v6], []) (.int v :: st) h) := exF_o (i := (i_ai 0 646)) rfl rfl
theorem eL_law_646 {ev : xV} {v0 v1 v2 v3 v4 v5 v6 : Option Value} {a0 : Value} {a : Nat} {h : xH} : exF ev cL_law 646 ([v0, v1, v2, v3, v4, v5, v6], []) [a0, .ref a] h = xO (xck h a 0) (fun _ => xB (ev 118 [.ref a, a0] h) (fun v h => exF ev cL_law 649 ([v0, v1, v2, v3, v4, v5, v6], []) [v] h)) := exF_cd (i := (i_cv 0 118 1 649)) rfl rfl
theorem eL_law_649 {ev : xV} {v0 v1 v3 v4 v5 v6 : Option Value} {x : Nat} {st : List Value} {h : xH} : exF ev cL_law 649 ([v0, v1, some (.ref x), v3, v4, v5, v6], []) st h = exF ev cL_law 650 ([v0, v1, some (.ref x), v3, v4, v5, v6], []) (.ref x :: st) h := exF_j (i := (i_aload 2 650)) rfl rfl
theorem eL_law_650 {ev : xV} {v1 v2 v3 v4 v5 v6 : Option Value} {x : Nat} {st : List Value} {h : xH} : exF ev cL_law 650 ([some (.ref x), v1, v2, v3, v4, v5, v6], []) st h = exF ev cL_law 651 ([some (.ref x), v1, v2, v3, v4, v5, v6], []) (.ref x :: st) h := exF_j (i := (i_aload 0 651)) rfl rfl
theorem eL_law_651 {ev : xV} {v0 v1 v2 v3 v5 v6 : Option Value} {x : Int32} {st : List Value} {h : xH} : exF ev cL_law 651 ([v0, v1, v2, v3, some (.int x), v5, v6], []) st h = exF ev cL_law 653 ([v0, v1, v2, v3, some (.int x), v5, v6], []) (.int x :: st) h := exF_j (i := (i_iload 4 653)) rfl rfl
theorem eL_law_653 {ev : xV} {v0 v1 v2 v3 v4 v5 v6 : Option Value} {st : List Value} {h : xH} : exF ev cL_law 653 ([v0, v1, v2, v3, v4, v5, v6], []) st h = exF ev cL_law 654 ([v0, v1, v2, v3, v4, v5, v6], []) (.int (nI 1) :: st) h := exF_j (i := (i_const (.int (nI 1)) 654)) rfl rfl
theorem eL_law_654 {ev : xV} {v0 v1 v2 v3 v4 v5 v6 : Option Value} {x y : Int32} {st : List Value} {h : xH} : exF ev cL_law 654 ([v0, v1, v2, v3, v4, v5, v6], []) (.int y :: .int x :: st) h = exF ev cL_law 655 ([v0, v1, v2, v3, v4, v5, v6], []) (.int (x + y) :: st) h := exF_j (i := (i_ii (fun x y => x + y) 655)) rfl rfl
theorem eL_law_655 {ev : xV} {v0 v1 v2 v3 v4 v5 v6 : Option Value} {i : Int32} {a : Nat} {st : List Value} {h : xH} : exF ev cL_law 655 ([v0, v1, v2, v3, v4, v5, v6], []) (.int i :: .ref a :: st) h = xO (xai h 0 a i) (fun v => exF ev cL_law 656 ([v0, v1, v2, v3, v4, v5, v6], []) (.int v :: st) h) := exF_o (i := (i_ai 0 656)) rfl rfl
theorem eL_law_656 {ev : xV} {v0 v1 v2 v3 v4 v5 v6 : Option Value} {a0 : Value} {r0 : Value} {a : Nat} {h : xH} : exF ev cL_law 656 ([v0, v1, v2, v3, v4, v5, v6], []) [a0, .ref a, r0] h = xO (xck h a 4) (fun _ => xB (ev 318 [.ref a, a0] h) (fun v h => exF ev cL_law 659 ([v0, v1, v2, v3, v4, v5, v6], []) [v, r0] h)) := exF_cd (i := (i_cv 4 318 1 659)) rfl rfl
theorem eL_law_659 {ev : xV} {v0 v1 v2 v3 v4 v5 v6 : Option Value} {x y : Int32} {st : List Value} {h : xH} : exF ev cL_law 659 ([v0, v1, v2, v3, v4, v5, v6], []) (.int y :: .int x :: st) h = if x = y then exF ev cL_law 1512 ([v0, v1, v2, v3, v4, v5, v6], []) st h else exF ev cL_law 662 ([v0, v1, v2, v3, v4, v5, v6], []) st h := exF_b (i := (i_if2 (fun x y => x = y) 1512 662)) rfl rfl
theorem eL_law_662 {ev : xV} {v0 v1 v2 v3 v4 v5 v6 : Option Value} {st : List Value} {h : xH} : exF ev cL_law 662 ([v0, v1, v2, v3, v4, v5, v6], []) st h = exF ev cL_law 663 ([v0, v1, v2, v3, v4, v5, v6], []) (.int (nI 0) :: st) h := exF_j (i := (i_const (.int (nI 0)) 663)) rfl rfl
theorem eL_law_663 {ev : xV} {v0 v1 v2 v3 v4 v5 v6 : Option Value} {x : Int32} {h : xH} : exF ev cL_law 663 ([v0, v1, v2, v3, v4, v5, v6], []) [.int x] h = if x = nI 0 ∨ x = nI 1 then some (.inl (some (.int x)), h) else none := exF_z (i := (i_zret)) rfl rfl
theorem eL_law_663b0 {ev : xV} {v0 v1 v2 v3 v4 v5 v6 : Option Value} {h : xH} : exF ev cL_law 663 ([v0, v1, v2, v3, v4, v5, v6], []) [.int (nI 0)] h = some (.inl (some (.int (nI 0))), h) := exF_r (i := (i_zret)) rfl i_zret_0
theorem eL_law_663b1 {ev : xV} {v0 v1 v2 v3 v4 v5 v6 : Option Value} {h : xH} : exF ev cL_law 663 ([v0, v1, v2, v3, v4, v5, v6], []) [.int (nI 1)] h = some (.inl (some (.int (nI 1))), h) := exF_r (i := (i_zret)) rfl i_zret_1
theorem eL_law_663b {ev : xV} {v0 v1 v2 v3 v4 v5 v6 : Option Value} {b : Bool} {h : xH} : exF ev cL_law 663 ([v0, v1, v2, v3, v4, v5, v6], []) [.int (bI b)] h = some (.inl (some (.int (bI b))), h) := exF_r (i := (i_zret)) rfl (i_zret_b b)
theorem eL_law_664 {ev : xV} {v0 v2 v3 v4 v5 v6 : Option Value} {x : Nat} {st : List Value} {h : xH} : exF ev cL_law 664 ([v0, some (.ref x), v2, v3, v4, v5, v6], []) st h = exF ev cL_law 665 ([v0, some (.ref x), v2, v3, v4, v5, v6], []) (.ref x :: st) h := exF_j (i := (i_aload 1 665)) rfl rfl
theorem eL_law_665 {ev : xV} {v1 v2 v3 v4 v5 v6 : Option Value} {x : Nat} {st : List Value} {h : xH} : exF ev cL_law 665 ([some (.ref x), v1, v2, v3, v4, v5, v6], []) st h = exF ev cL_law 666 ([some (.ref x), v1, v2, v3, v4, v5, v6], []) (.ref x :: st) h := exF_j (i := (i_aload 0 666)) rfl rfl
theorem eL_law_666 {ev : xV} {v0 v1 v2 v3 v5 v6 : Option Value} {x : Int32} {st : List Value} {h : xH} : exF ev cL_law 666 ([v0, v1, v2, v3, some (.int x), v5, v6], []) st h = exF ev cL_law 668 ([v0, v1, v2, v3, some (.int x), v5, v6], []) (.int x :: st) h := exF_j (i := (i_iload 4 668)) rfl rfl
theorem eL_law_668 {ev : xV} {v0 v1 v2 v3 v4 v5 v6 : Option Value} {st : List Value} {h : xH} : exF ev cL_law 668 ([v0, v1, v2, v3, v4, v5, v6], []) st h = exF ev cL_law 669 ([v0, v1, v2, v3, v4, v5, v6], []) (.int (nI 1) :: st) h := exF_j (i := (i_const (.int (nI 1)) 669)) rfl rfl
theorem eL_law_669 {ev : xV} {v0 v1 v2 v3 v4 v5 v6 : Option Value} {x y : Int32} {st : List Value} {h : xH} : exF ev cL_law 669 ([v0, v1, v2, v3, v4, v5, v6], []) (.int y :: .int x :: st) h = exF ev cL_law 670 ([v0, v1, v2, v3, v4, v5, v6], []) (.int (x + y) :: st) h := exF_j (i := (i_ii (fun x y => x + y) 670)) rfl rfl
theorem eL_law_670 {ev : xV} {v0 v1 v2 v3 v4 v5 v6 : Option Value} {i : Int32} {a : Nat} {st : List Value} {h : xH} : exF ev cL_law 670 ([v0, v1, v2, v3, v4, v5, v6], []) (.int i :: .ref a :: st) h = xO (xai h 0 a i) (fun v => exF ev cL_law 671 ([v0, v1, v2, v3, v4, v5, v6], []) (.int v :: st) h) := exF_o (i := (i_ai 0 671)) rfl rfl
theorem eL_law_671 {ev : xV} {v0 v1 v2 v3 v4 v5 v6 : Option Value} {a0 : Value} {a : Nat} {h : xH} : exF ev cL_law 671 ([v0, v1, v2, v3, v4, v5, v6], []) [a0, .ref a] h = xO (xck h a 0) (fun _ => xB (ev 124 [.ref a, a0] h) (fun v h => exF ev cL_law 674 ([v0, v1, v2, v3, v4, v5, v6], []) [v] h)) := exF_cd (i := (i_cv 0 124 1 674)) rfl rfl
theorem eL_law_674 {ev : xV} {v0 v1 v3 v4 v5 v6 : Option Value} {x : Nat} {st : List Value} {h : xH} : exF ev cL_law 674 ([v0, v1, some (.ref x), v3, v4, v5, v6], []) st h = exF ev cL_law 675 ([v0, v1, some (.ref x), v3, v4, v5, v6], []) (.ref x :: st) h := exF_j (i := (i_aload 2 675)) rfl rfl
theorem eL_law_675 {ev : xV} {v1 v2 v3 v4 v5 v6 : Option Value} {x : Nat} {st : List Value} {h : xH} : exF ev cL_law 675 ([some (.ref x), v1, v2, v3, v4, v5, v6], []) st h = exF ev cL_law 676 ([some (.ref x), v1, v2, v3, v4, v5, v6], []) (.ref x :: st) h := exF_j (i := (i_aload 0 676)) rfl rfl
theorem eL_law_676 {ev : xV} {v0 v1 v2 v3 v5 v6 : Option Value} {x : Int32} {st : List Value} {h : xH} : exF ev cL_law 676 ([v0, v1, v2, v3, some (.int x), v5, v6], []) st h = exF ev cL_law 678 ([v0, v1, v2, v3, some (.int x), v5, v6], []) (.int x :: st) h := exF_j (i := (i_iload 4 678)) rfl rfl
theorem eL_law_678 {ev : xV} {v0 v1 v2 v3 v4 v5 v6 : Option Value} {st : List Value} {h : xH} : exF ev cL_law 678 ([v0, v1, v2, v3, v4, v5, v6], []) st h = exF ev cL_law 679 ([v0, v1, v2, v3, v4, v5, v6], []) (.int (nI 1) :: st) h := exF_j (i := (i_const (.int (nI 1)) 679)) rfl rfl
theorem eL_law_679 {ev : xV} {v0 v1 v2 v3 v4 v5 v6 : Option Value} {x y : Int32} {st : List Value} {h : xH} : exF ev cL_law 679 ([v0, v1, v2, v3, v4, v5, v6], []) (.int y :: .int x :: st) h = exF ev cL_law 680 ([v0, v1, v2, v3, v4, v5, v6], []) (.int (x + y) :: st) h := exF_j (i := (i_ii (fun x y => x + y) 680)) rfl rfl
theorem eL_law_680 {ev : xV} {v0 v1 v2 v3 v4 v5 v6 : Option Value} {i : Int32} {a : Nat} {st : List Value} {h : xH} : exF ev cL_law 680 ([v0, v1, v2, v3, v4, v5, v6], []) (.int i :: .ref a :: st) h = xO (xai h 0 a i) (fun v => exF ev cL_law 681 ([v0, v1, v2, v3, v4, v5, v6], []) (.int v :: st) h) := exF_o (i := (i_ai 0 681)) rfl rfl
theorem eL_law_681 {ev : xV} {v0 v1 v2 v3 v4 v5 v6 : Option Value} {a0 : Value} {r0 : Value} {a : Nat} {h : xH} : exF ev cL_law 681 ([v0, v1, v2, v3, v4, v5, v6], []) [a0, .ref a, r0] h = xO (xck h a 4) (fun _ => xB (ev 324 [.ref a, a0] h) (fun v h => exF ev cL_law 684 ([v0, v1, v2, v3, v4, v5, v6], []) [v, r0] h)) := exF_cd (i := (i_cv 4 324 1 684)) rfl rfl
theorem eL_law_684 {ev : xV} {v0 v1 v2 v3 v4 v5 v6 : Option Value} {x y : Int32} {st : List Value} {h : xH} : exF ev cL_law 684 ([v0, v1, v2, v3, v4, v5, v6], []) (.int y :: .int x :: st) h = if x = y then exF ev cL_law 1512 ([v0, v1, v2, v3, v4, v5, v6], []) st h else exF ev cL_law 687 ([v0, v1, v2, v3, v4, v5, v6], []) st h := exF_b (i := (i_if2 (fun x y => x = y) 1512 687)) rfl rfl
theorem eL_law_687 {ev : xV} {v0 v1 v2 v3 v4 v5 v6 : Option Value} {st : List Value} {h : xH} : exF ev cL_law 687 ([v0, v1, v2, v3, v4, v5, v6], []) st h = exF ev cL_law 688 ([v0, v1, v2, v3, v4, v5, v6], []) (.int (nI 0) :: st) h := exF_j (i := (i_const (.int (nI 0)) 688)) rfl rfl
theorem eL_law_688 {ev : xV} {v0 v1 v2 v3 v4 v5 v6 : Option Value} {x : Int32} {h : xH} : exF ev cL_law 688 ([v0, v1, v2, v3, v4, v5, v6], []) [.int x] h = if x = nI 0 ∨ x = nI 1 then some (.inl (some (.int x)), h) else none := exF_z (i := (i_zret)) rfl rfl
theorem eL_law_688b0 {ev : xV} {v0 v1 v2 v3 v4 v5 v6 : Option Value} {h : xH} : exF ev cL_law 688 ([v0, v1, v2, v3, v4, v5, v6], []) [.int (nI 0)] h = some (.inl (some (.int (nI 0))), h) := exF_r (i := (i_zret)) rfl i_zret_0
theorem eL_law_688b1 {ev : xV} {v0 v1 v2 v3 v4 v5 v6 : Option Value} {h : xH} : exF ev cL_law 688 ([v0, v1, v2, v3, v4, v5, v6], []) [.int (nI 1)] h = some (.inl (some (.int (nI 1))), h) := exF_r (i := (i_zret)) rfl i_zret_1
theorem eL_law_688b {ev : xV} {v0 v1 v2 v3 v4 v5 v6 : Option Value} {b : Bool} {h : xH} : exF ev cL_law 688 ([v0, v1, v2, v3, v4, v5, v6], []) [.int (bI b)] h = some (.inl (some (.int (bI b))), h) := exF_r (i := (i_zret)) rfl (i_zret_b b)
theorem eL_law_689 {ev : xV} {v0 v2 v3 v4 v5 v6 : Option Value} {x : Nat} {st : List Value} {h : xH} : exF ev cL_law 689 ([v0, some (.ref x), v2, v3, v4, v5, v6], []) st h = exF ev cL_law 690 ([v0, some (.ref x), v2, v3, v4, v5, v6], []) (.ref x :: st) h := exF_j (i := (i_aload 1 690)) rfl rfl
theorem eL_law_690 {ev : xV} {v1 v2 v3 v4 v5 v6 : Option Value} {x : Nat} {st : List Value} {h : xH} : exF ev cL_law 690 ([some (.ref x), v1, v2, v3, v4, v5, v6], []) st h = exF ev cL_law 691 ([some (.ref x), v1, v2, v3, v4, v5, v6], []) (.ref x :: st) h := exF_j (i := (i_aload 0 691)) rfl rfl
theorem eL_law_691 {ev : xV} {v0 v1 v2 v3 v5 v6 : Option Value} {x : Int32} {st : List Value} {h : xH} : exF ev cL_law 691 ([v0, v1, v2, v3, some (.int x), v5, v6], []) st h = exF ev cL_law 693 ([v0, v1, v2, v3, some (.int x), v5, v6], []) (.int x :: st) h := exF_j (i := (i_iload 4 693)) rfl rfl
theorem eL_law_693 {ev : xV} {v0 v1 v2 v3 v4 v5 v6 : Option Value} {st : List Value} {h : xH} : exF ev cL_law 693 ([v0, v1, v2, v3, v4, v5, v6], []) st h = exF ev cL_law 694 ([v0, v1, v2, v3, v4, v5, v6], []) (.int (nI 1) :: st) h := exF_j (i := (i_const (.int (nI 1)) 694)) rfl rfl
theorem eL_law_694 {ev : xV} {v0 v1 v2 v3 v4 v5 v6 : Option Value} {x y : Int32} {st : List Value} {h : xH} : exF ev cL_law 694 ([v0, v1, v2, v3, v4, v5, v6], []) (.int y :: .int x :: st) h = exF ev cL_law 695 ([v0, v1, v2, v3, v4, v5, v6], []) (.int (x + y) :: st) h := exF_j (i := (i_ii (fun x y => x + y) 695)) rfl rfl
theorem eL_law_695 {ev : xV} {v0 v1 v2 v3 v4 v5 v6 : Option Value} {i : Int32} {a : Nat} {st : List Value} {h : xH} : exF ev cL_law 695 ([v0, v1, v2, v3, v4, v5, v6], []) (.int i :: .ref a :: st) h = xO (xai h 0 a i) (fun v => exF ev cL_law 696 ([v0, v1, v2, v3, v4, v5, v6], []) (.int v :: st) h) := exF_o (i := (i_ai 0 696)) rfl rfl
theorem eL_law_696 {ev : xV} {v1 v2 v3 v4 v5 v6 : Option Value} {x : Nat} {st : List Value} {h : xH} : exF ev cL_law 696 ([some (.ref x), v1, v2, v3, v4, v5, v6], []) st h = exF ev cL_law 697 ([some (.ref x), v1, v2, v3, v4, v5, v6], []) (.ref x :: st) h := exF_j (i := (i_aload 0 697)) rfl rfl
theorem eL_law_697 {ev : xV} {v0 v1 v2 v3 v5 v6 : Option Value} {x : Int32} {st : List Value} {h : xH} : exF ev cL_law 697 ([v0, v1, v2, v3, some (.int x), v5, v6], []) st h = exF ev cL_law 699 ([v0, v1, v2, v3, some (.int x), v5, v6], []) (.int x :: st) h := exF_j (i := (i_iload 4 699)) rfl rfl
theorem eL_law_699 {ev : xV} {v0 v1 v2 v3 v4 v5 v6 : Option Value} {st : List Value} {h : xH} : exF ev cL_law 699 ([v0, v1, v2, v3, v4, v5, v6], []) st h = exF ev cL_law 700 ([v0, v1, v2, v3, v4, v5, v6], []) (.int (nI 2) :: st) h := exF_j (i := (i_const (.int (nI 2)) 700)) rfl rfl
theorem eL_law_700 {ev : xV} {v0 v1 v2 v3 v4 v5 v6 : Option Value} {x y : Int32} {st : List Value} {h : xH} : exF ev cL_law 700 ([v0, v1, v2, v3, v4, v5, v6], []) (.int y :: .int x :: st) h = exF ev cL_law 701 ([v0, v1, v2, v3, v4, v5, v6], []) (.int (x + y) :: st) h := exF_j (i := (i_ii (fun x y => x + y) 701)) rfl rfl
theorem eL_law_701 {ev : xV} {v0 v1 v2 v3 v4 v5 v6 : Option Value} {i : Int32} {a : Nat} {st : List Value} {h : xH} : exF ev cL_law 701 ([v0, v1, v2, v3, v4, v5, v6], []) (.int i :: .ref a :: st) h = xO (xai h 0 a i) (fun v => exF ev cL_law 702 ([v0, v1, v2, v3, v4, v5, v6], []) (.int v :: st) h) := exF_o (i := (i_ai 0 702)) rfl rfl
theorem eL_law_702 {ev : xV} {v0 v1 v2 v3 v4 v5 v6 : Option Value} {a0 : Value} {a1 : Value} {a : Nat} {h : xH} : exF ev cL_law 702 ([v0, v1, v2, v3, v4, v5, v6], []) [a1, a0, .ref a] h = xO (xck h a 0) (fun _ => xB (ev 130 [.ref a, a0, a1] h) (fun v h => exF ev cL_law 705 ([v0, v1, v2, v3, v4, v5, v6], []) [v] h)) := exF_cd (i := (i_cv 0 130 2 705)) rfl rfl
theorem eL_law_705 {ev : xV} {v0 v1 v3 v4 v5 v6 : Option Value} {x : Nat} {st : List Value} {h : xH} : exF ev cL_law 705 ([v0, v1, some (.ref x), v3, v4, v5, v6], []) st h = exF ev cL_law 706 ([v0, v1, some (.ref x), v3, v4, v5, v6], []) (.ref x :: st) h := exF_j (i := (i_aload 2 706)) rfl rfl
theorem eL_law_706 {ev : xV} {v1 v2 v3 v4 v5 v6 : Option Value} {x : Nat} {st : List Value} {h : xH} : exF ev cL_law 706 ([some (.ref x), v1, v2, v3, v4, v5, v6], []) st h = exF ev cL_law 707 ([some (.ref x), v1, v2, v3, v4, v5, v6], []) (.ref x :: st) h := exF_j (i := (i_aload 0 707)) rfl rfl
theorem eL_law_707 {ev : xV} {v0 v1 v2 v3 v5 v6 : Option Value} {x : Int32} {st : List Value} {h : xH} : exF ev cL_law 707 ([v0, v1, v2, v3, some (.int x), v5, v6], []) st h = exF ev cL_law 709 ([v0, v1, v2, v3, some (.int x), v5, v6], []) (.int x :: st) h := exF_j (i := (i_iload 4 709)) rfl rfl
theorem eL_law_709 {ev : xV} {v0 v1 v2 v3 v4 v5 v6 : Option Value} {st : List Value} {h : xH} : exF ev cL_law 709 ([v0, v1, v2, v3, v4, v5, v6], []) st h = exF ev cL_law 710 ([v0, v1, v2, v3, v4, v5, v6], []) (.int (nI 1) :: st) h := exF_j (i := (i_const (.int (nI 1)) 710)) rfl rfl
theorem eL_law_710 {ev : xV} {v0 v1 v2 v3 v4 v5 v6 : Option Value} {x y : Int32} {st : List Value} {h : xH} : exF ev cL_law 710 ([v0, v1, v2, v3, v4, v5, v6], []) (.int y :: .int x :: st) h = exF ev cL_law 711 ([v0, v1, v2, v3, v4, v5, v6], []) (.int (x + y) :: st) h := exF_j (i := (i_ii (fun x y => x + y) 711)) rfl rfl
theorem eL_law_711 {ev : xV} {v0 v1 v2 v3 v4 v5 v6 : Option Value} {i : Int32} {a : Nat} {st : List Value} {h : xH} : exF ev cL_law 711 ([v0, v1, v2, v3, v4, v5, v6], []) (.int i :: .ref a :: st) h = xO (xai h 0 a i) (fun v => exF ev cL_law 712 ([v0, v1, v2, v3, v4, v5, v6], []) (.int v :: st) h) := exF_o (i := (i_ai 0 712)) rfl rfl
theorem eL_law_712 {ev : xV} {v1 v2 v3 v4 v5 v6 : Option Value} {x : Nat} {st : List Value} {h : xH} : exF ev cL_law 712 ([some (.ref x), v1, v2, v3, v4, v5, v6], []) st h = exF ev cL_law 713 ([some (.ref x), v1, v2, v3, v4, v5, v6], []) (.ref x :: st) h := exF_j (i := (i_aload 0 713)) rfl rfl
theorem eL_law_713 {ev : xV} {v0 v1 v2 v3 v5 v6 : Option Value} {x : Int32} {st : List Value} {h : xH} : exF ev cL_law 713 ([v0, v1, v2, v3, some (.int x), v5, v6], []) st h = exF ev cL_law 715 ([v0, v1, v2, v3, some (.int x), v5, v6], []) (.int x :: st) h := exF_j (i := (i_iload 4 715)) rfl rfl
theorem eL_law_715 {ev : xV} {v0 v1 v2 v3 v4 v5 v6 : Option Value} {st : List Value} {h : xH} : exF ev cL_law 715 ([v0, v1, v2, v3, v4, v5, v6], []) st h = exF ev cL_law 716 ([v0, v1, v2, v3, v4, v5, v6], []) (.int (nI 2) :: st) h := exF_j (i := (i_const (.int (nI 2)) 716)) rfl rfl
theorem eL_law_716 {ev : xV} {v0 v1 v2 v3 v4 v5 v6 : Option Value} {x y : Int32} {st : List Value} {h : xH} : exF ev cL_law 716 ([v0, v1, v2, v3, v4, v5, v6], []) (.int y :: .int x :: st) h = exF ev cL_law 717 ([v0, v1, v2, v3, v4, v5, v6], []) (.int (x + y) :: st) h := exF_j (i := (i_ii (fun x y => x + y) 717)) rfl rfl
theorem eL_law_717 {ev : xV} {v0 v1 v2 v3 v4 v5 v6 : Option Value} {i : Int32} {a : Nat} {st : List Value} {h : xH} : exF ev cL_law 717 ([v0, v1, v2, v3, v4, v5, v6], []) (.int i :: .ref a :: st) h = xO (xai h 0 a i) (fun v => exF ev cL_law 718 ([v0, v1, v2, v3, v4, v5, v6], []) (.int v :: st) h) := exF_o (i := (i_ai 0 718)) rfl rfl
theorem eL_law_718 {ev : xV} {v0 v1 v2 v3 v4 v5 v6 : Option Value} {a0 : Value} {a1 : Value} {r0 : Value} {a : Nat} {h : xH} : exF ev cL_law 718 ([v0, v1, v2, v3, v4, v5, v6], []) [a1, a0, .ref a, r0] h = xO (xck h a 4) (fun _ => xB (ev 336 [.ref a, a0, a1] h) (fun v h => exF ev cL_law 721 ([v0, v1, v2, v3, v4, v5, v6], []) [v, r0] h)) := exF_cd (i := (i_cv 4 336 2 721)) rfl rfl
theorem eL_law_721 {ev : xV} {v0 v1 v2 v3 v4 v5 v6 : Option Value} {x y : Int32} {st : List Value} {h : xH} : exF ev cL_law 721 ([v0, v1, v2, v3, v4, v5, v6], []) (.int y :: .int x :: st) h = if x = y then exF ev cL_law 1512 ([v0, v1, v2, v3, v4, v5, v6], []) st h else exF ev cL_law 724 ([v0, v1, v2, v3, v4, v5, v6], []) st h := exF_b (i := (i_if2 (fun x y => x = y) 1512 724)) rfl rfl
theorem eL_law_724 {ev : xV} {v0 v1 v2 v3 v4 v5 v6 : Option Value} {st : List Value} {h : xH} : exF ev cL_law 724 ([v0, v1, v2, v3, v4, v5, v6], []) st h = exF ev cL_law 725 ([v0, v1, v2, v3, v4, v5, v6], []) (.int (nI 0) :: st) h := exF_j (i := (i_const (.int (nI 0)) 725)) rfl rfl
theorem eL_law_725 {ev : xV} {v0 v1 v2 v3 v4 v5 v6 : Option Value} {x : Int32} {h : xH} : exF ev cL_law 725 ([v0, v1, v2, v3, v4, v5, v6], []) [.int x] h = if x = nI 0 ∨ x = nI 1 then some (.inl (some (.int x)), h) else none := exF_z (i := (i_zret)) rfl rfl
theorem eL_law_725b0 {ev : xV} {v0 v1 v2 v3 v4 v5 v6 : Option Value} {h : xH} : exF ev cL_law 725 ([v0, v1, v2, v3, v4, v5, v6], []) [.int (nI 0)] h = some (.inl (some (.int (nI 0))), h) := exF_r (i := (i_zret)) rfl i_zret_0
theorem eL_law_725b1 {ev : xV} {v0 v1 v2 v3 v4 v5 v6 : Option Value} {h : xH} : exF ev cL_law 725 ([v0, v1, v2, v3, v4, v5, v6], []) [.int (nI 1)] h = some (.inl (some (.int (nI 1))), h) := exF_r (i := (i_zret)) rfl i_zret_1
theorem eL_law_725b {ev : xV} {v0 v1 v2 v3 v4 v5 v6 : Option Value} {b : Bool} {h : xH} : exF ev cL_law 725 ([v0, v1, v2, v3, v4, v5, v6], []) [.int (bI b)] h = some (.inl (some (.int (bI b))), h) := exF_r (i := (i_zret)) rfl (i_zret_b b)
theorem eL_law_726 {ev : xV} {v0 v2 v3 v4 v5 v6 : Option Value} {x : Nat} {st : List Value} {h : xH} : exF ev cL_law 726 ([v0, some (.ref x), v2, v3, v4, v5, v6], []) st h = exF ev cL_law 727 ([v0, some (.ref x), v2, v3, v4, v5, v6], []) (.ref x :: st) h := exF_j (i := (i_aload 1 727)) rfl rfl
theorem eL_law_727 {ev : xV} {v1 v2 v3 v4 v5 v6 : Option Value} {x : Nat} {st : List Value} {h : xH} : exF ev cL_law 727 ([some (.ref x), v1, v2, v3, v4, v5, v6], []) st h = exF ev cL_law 728 ([some (.ref x), v1, v2, v3, v4, v5, v6], []) (.ref x :: st) h := exF_j (i := (i_aload 0 728)) rfl rfl
theorem eL_law_728 {ev : xV} {v0 v1 v2 v3 v5 v6 : Option Value} {x : Int32} {st : List Value} {h : xH} : exF ev cL_law 728 ([v0, v1, v2, v3, some (.int x), v5, v6], []) st h = exF ev cL_law 730 ([v0, v1, v2, v3, some (.int x), v5, v6], []) (.int x :: st) h := exF_j (i := (i_iload 4 730)) rfl rfl
theorem eL_law_730 {ev : xV} {v0 v1 v2 v3 v4 v5 v6 : Option Value} {st : List Value} {h : xH} : exF ev cL_law 730 ([v0, v1, v2, v3, v4, v5, v6], []) st h = exF ev cL_law 731 ([v0, v1, v2, v3, v4, v5, v6], []) (.int (nI 1) :: st) h := exF_j (i := (i_const (.int (nI 1)) 731)) rfl rfl
theorem eL_law_731 {ev : xV} {v0 v1 v2 v3 v4 v5 v6 : Option Value} {x y : Int32} {st : List Value} {h : xH} : exF ev cL_law 731 ([v0, v1, v2, v3, v4, v5, v6], []) (.int y :: .int x :: st) h = exF ev cL_law 732 ([v0, v1, v2, v3, v4, v5, v6], []) (.int (x + y) :: st) h := exF_j (i := (i_ii (fun x y => x + y) 732)) rfl rfl
theorem eL_law_732 {ev : xV} {v0 v1 v2 v3 v4 v5 v6 : Option Value} {i : Int32} {a : Nat} {st : List Value} {h : xH} : exF ev cL_law 732 ([v0, v1, v2, v3, v4, v5, v6], []) (.int i :: .ref a :: st) h = xO (xai h 0 a i) (fun v => exF ev cL_law 733 ([v0, v1, v2, v3, v4, v5, v6], []) (.int v :: st) h) := exF_o (i := (i_ai 0 733)) rfl rfl
theorem eL_law_733 {ev : xV} {v0 v1 v2 v3 v4 v5 v6 : Option Value} {a0 : Value} {a : Nat} {h : xH} : exF ev cL_law 733 ([v0, v1, v2, v3, v4, v5, v6], []) [a0, .ref a] h = xO (xck h a 0) (fun _ => xB (ev 132 [.ref a, a0] h) (fun v h => exF ev cL_law 736 ([v0, v1, v2, v3, v4, v5, v6], []) [v] h)) := exF_cd (i := (i_cv 0 132 1 736)) rfl rfl
theorem eL_law_736 {ev : xV} {v0 v1 v3 v4 v5 v6 : Option Value} {x : Nat} {st : List Value} {h : xH} : exF ev cL_law 736 ([v0, v1, some (.ref x), v3, v4, v5, v6], []) st h = exF ev cL_law 737 ([v0, v1, some (.ref x), v3, v4, v5, v6], []) (.ref x :: st) h := exF_j (i := (i_aload 2 737)) rfl rfl
theorem eL_law_737 {ev : xV} {v1 v2 v3 v4 v5 v6 : Option Value} {x : Nat} {st : List Value} {h : xH} : exF ev cL_law 737 ([some (.ref x), v1, v2, v3, v4, v5, v6], []) st h = exF ev cL_law 738 ([some (.ref x), v1, v2, v3, v4, v5, v6], []) (.ref x :: st) h := exF_j (i := (i_aload 0 738)) rfl rfl
theorem eL_law_738 {ev : xV} {v0 v1 v2 v3 v5 v6 : Option Value} {x : Int32} {st : List Value} {h : xH} : exF ev cL_law 738 ([v0, v1, v2, v3, some (.int x), v5, v6], []) st h = exF ev cL_law 740 ([v0, v1, v2, v3, some (.int x), v5, v6], []) (.int x :: st) h := exF_j (i := (i_iload 4 740)) rfl rfl
theorem eL_law_740 {ev : xV} {v0 v1 v2 v3 v4 v5 v6 : Option Value} {st : List Value} {h : xH} : exF ev cL_law 740 ([v0, v1, v2, v3, v4, v5, v6], []) st h = exF ev cL_law 741 ([v0, v1, v2, v3, v4, v5, v6], []) (.int (nI 1) :: st) h := exF_j (i := (i_const (.int (nI 1)) 741)) rfl rfl
theorem eL_law_741 {ev : xV} {v0 v1 v2 v3 v4 v5 v6 : Option Value} {x y : Int32} {st : List Value} {h : xH} : exF ev cL_law 741 ([v0, v1, v2, v3, v4, v5, v6], []) (.int y :: .int x :: st) h = exF ev cL_law 742 ([v0, v1, v2, v3, v4, v5, v6], []) (.int (x + y) :: st) h := exF_j (i := (i_ii (fun x y => x + y) 742)) rfl rfl
theorem eL_law_742 {ev : xV} {v0 v1 v2 v3 v4 v5 v6 : Option Value} {i : Int32} {a : Nat} {st : List Value} {h : xH} : exF ev cL_law 742 ([v0, v1, v2, v3, v4, v5, v6], []) (.int i :: .ref a :: st) h = xO (xai h 0 a i) (fun v => exF ev cL_law 743 ([v0, v1, v2, v3, v4, v5, v6], []) (.int v :: st) h) := exF_o (i := (i_ai 0 743)) rfl rfl
theorem eL_law_743 {ev : xV} {v0 v1 v2 v3 v4 v5 v6 : Option Value} {a0 : Value} {r0 : Value} {a : Nat} {h : xH} : exF ev cL_law 743 ([v0, v1, v2, v3, v4, v5, v6], []) [a0, .ref a, r0] h = xO (xck h a 4) (fun _ => xB (ev 338 [.ref a, a0] h) (fun v h => exF ev cL_law 746 ([v0, v1, v2, v3, v4, v5, v6], []) [v, r0] h)) := exF_cd (i := (i_cv 4 338 1 746)) rfl rfl
theorem eL_law_746 {ev : xV} {v0 v1 v2 v3 v4 v5 v6 : Option Value} {x y : Int32} {st : List Value} {h : xH} : exF ev cL_law 746 ([v0, v1, v2, v3, v4, v5, v6], []) (.int y :: .int x :: st) h = if x = y then exF ev cL_law 1512 ([v0, v1, v2, v3, v4, v5, v6], []) st h else exF ev cL_law 749 ([v0, v1, v2, v3, v4, v5, v6], []) st h := exF_b (i := (i_if2 (fun x y => x = y) 1512 749)) rfl rfl
theorem eL_law_749 {ev : xV} {v0 v1 v2 v3 v4 v5 v6 : Option Value} {st : List Value} {h : xH} : exF ev cL_law 749 ([v0, v1, v2, v3, v4, v5, v6], []) st h = exF ev cL_law 750 ([v0, v1, v2, v3, v4, v5, v6], []) (.int (nI 0) :: st) h := exF_j (i := (i_const (.int (nI 0)) 750)) rfl rfl
theorem eL_law_750 {ev : xV} {v0 v1 v2 v3 v4 v5 v6 : Option Value} {x : Int32} {h : xH} : exF ev cL_law 750 ([v0, v1, v2, v3, v4, v5, v6], []) [.int x] h = if x = nI 0 ∨ x = nI 1 then some (.inl (some (.int x)), h) else none := exF_z (i := (i_zret)) rfl rfl
theorem eL_law_750b0 {ev : xV} {v0 v1 v2 v3 v4 v5 v6 : Option Value} {h : xH} : exF ev cL_law 750 ([v0, v1, v2, v3, v4, v5, v6], []) [.int (nI 0)] h = some (.inl (some (.int (nI 0))), h) := exF_r (i := (i_zret)) rfl i_zret_0
theorem eL_law_750b1 {ev : xV} {v0 v1 v2 v3 v4 v5 v6 : Option Value} {h : xH} : exF ev cL_law 750 ([v0, v1, v2, v3, v4, v5, v6], []) [.int (nI 1)] h = some (.inl (some (.int (nI 1))), h) := exF_r (i := (i_zret)) rfl i_zret_1
theorem eL_law_750b {ev : xV} {v0 v1 v2 v3 v4 v5 v6 : Option Value} {b : Bool} {h : xH} : exF ev cL_law 750 ([v0, v1, v2, v3, v4, v5, v6], []) [.int (bI b)] h = some (.inl (some (.int (bI b))), h) := exF_r (i := (i_zret)) rfl (i_zret_b b)
theorem eL_law_751 {ev : xV} {v0 v2 v3 v4 v5 v6 : Option Value} {x : Nat} {st : List Value} {h : xH} : exF ev cL_law 751 ([v0, some (.ref x), v2, v3, v4, v5, v6], []) st h = exF ev cL_law 752 ([v0, some (.ref x), v2, v3, v4, v5, v6], []) (.ref x :: st) h := exF_j (i := (i_aload 1 752)) rfl rfl
theorem eL_law_752 {ev : xV} {v1 v2 v3 v4 v5 v6 : Option Value} {x : Nat} {st : List Value} {h : xH} : exF ev cL_law 752 ([some (.ref x), v1, v2, v3, v4, v5, v6], []) st h = exF ev cL_law 753 ([some (.ref x), v1, v2, v3, v4, v5, v6], []) (.ref x :: st) h := exF_j (i := (i_aload 0 753)) rfl rfl
theorem eL_law_753 {ev : xV} {v0 v1 v2 v3 v5 v6 : Option Value} {x : Int32} {st : List Value} {h : xH} : exF ev cL_law 753 ([v0, v1, v2, v3, some (.int x), v5, v6], []) st h = exF ev cL_law 755 ([v0, v1, v2, v3, some (.int x), v5, v6], []) (.int x :: st) h := exF_j (i := (i_iload 4 755)) rfl rfl
theorem eL_law_755 {ev : xV} {v0 v1 v2 v3 v4 v5 v6 : Option Value} {st : List Value} {h : xH} : exF ev cL_law 755 ([v0, v1, v2, v3, v4, v5, v6], []) st h = exF ev cL_law 756 ([v0, v1, v2, v3, v4, v5, v6], []) (.int (nI 1) :: st) h := exF_j (i := (i_const (.int (nI 1)) 756)) rfl rfl
theorem eL_law_756 {ev : xV} {v0 v1 v2 v3 v4 v5 v6 : Option Value} {x y : Int32} {st : List Value} {h : xH} : exF ev cL_law 756 ([v0, v1, v2, v3, v4, v5, v6], []) (.int y :: .int x :: st) h = exF ev cL_law 757 ([v0, v1, v2, v3, v4, v5, v6], []) (.int (x + y) :: st) h := exF_j (i := (i_ii (fun x y => x + y) 757)) rfl rfl
theorem eL_law_757 {ev : xV} {v0 v1 v2 v3 v4 v5 v6 : Option Value} {i : Int32} {a : Nat} {st : List Value} {h : xH} : exF ev cL_law 757 ([v0, v1, v2, v3, v4, v5, v6], []) (.int i :: .ref a :: st) h = xO (xai h 0 a i) (fun v => exF ev cL_law 758 ([v0, v1, v2, v3, v4, v5, v6], []) (.int v :: st) h) := exF_o (i := (i_ai 0 758)) rfl rfl
theorem eL_law_758 {ev : xV} {v0 v1 v2 v3 v4 v5 v6 : Option Value} {a0 : Value} {a : Nat} {h : xH} : exF ev cL_law 758 ([v0, v1, v2, v3, v4, v5, v6], []) [a0, .ref a] h = xO (xck h a 0) (fun _ => xB (ev 134 [.ref a, a0] h) (fun v h => exF ev cL_law 761 ([v0, v1, v2, v3, v4, v5, v6], []) [v] h)) := exF_cd (i := (i_cv 0 134 1 761)) rfl rfl
theorem eL_law_761 {ev : xV} {v0 v1 v3 v4 v5 v6 : Option Value} {x : Nat} {st : List Value} {h : xH} : exF ev cL_law 761 ([v0, v1, some (.ref x), v3, v4, v5, v6], []) st h = exF ev cL_law 762 ([v0, v1, some (.ref x), v3, v4, v5, v6], []) (.ref x :: st) h := exF_j (i := (i_aload 2 762)) rfl rfl
theorem eL_law_762 {ev : xV} {v1 v2 v3 v4 v5 v6 : Option Value} {x : Nat} {st : List Value} {h : xH} : exF ev cL_law 762 ([some (.ref x), v1, v2, v3, v4, v5, v6], []) st h = exF ev cL_law 763 ([some (.ref x), v1, v2, v3, v4, v5, v6], []) (.ref x :: st) h := exF_j (i := (i_aload 0 763)) rfl rfl
theorem eL_law_763 {ev : xV} {v0 v1 v2 v3 v5 v6 : Option Value} {x : Int32} {st : List Value} {h : xH} : exF ev cL_law 763 ([v0, v1, v2, v3, some (.int x), v5, v6], []) st h = exF ev cL_law 765 ([v0, v1, v2, v3, some (.int x), v5, v6], []) (.int x :: st) h := exF_j (i := (i_iload 4 765)) rfl rfl
theorem eL_law_765 {ev : xV} {v0 v1 v2 v3 v4 v5 v6 : Option Value} {st : List Value} {h : xH} : exF ev cL_law 765 ([v0, v1, v2, v3, v4, v5, v6], []) st h = exF ev cL_law 766 ([v0, v1, v2, v3, v4, v5, v6], []) (.int (nI 1) :: st) h := exF_j (i := (i_const (.int (nI 1)) 766)) rfl rfl
theorem eL_law_766 {ev : xV} {v0 v1 v2 v3 v4 v5 v6 : Option Value} {x y : Int32} {st : List Value} {h : xH} : exF ev cL_law 766 ([v0, v1, v2, v3, v4, v5, v6], []) (.int y :: .int x :: st) h = exF ev cL_law 767 ([v0, v1, v2, v3, v4, v5, v6], []) (.int (x + y) :: st) h := exF_j (i := (i_ii (fun x y => x + y) 767)) rfl rfl
theorem eL_law_767 {ev : xV} {v0 v1 v2 v3 v4 v5 v6 : Option Value} {i : Int32} {a : Nat} {st : List Value} {h : xH} : exF ev cL_law 767 ([v0, v1, v2, v3, v4, v5, v6], []) (.int i :: .ref a :: st) h = xO (xai h 0 a i) (fun v => exF ev cL_law 768 ([v0, v1, v2, v3, v4, v5, v6], []) (.int v :: st) h) := exF_o (i := (i_ai 0 768)) rfl rfl
theorem eL_law_768 {ev : xV} {v0 v1 v2 v3 v4 v5 v6 : Option Value} {a0 : Value} {r0 : Value} {a : Nat} {h : xH} : exF ev cL_law 768 ([v0, v1, v2, v3, v4, v5, v6], []) [a0, .ref a, r0] h = xO (xck h a 4) (fun _ => xB (ev 340 [.ref a, a0] h) (fun v h => exF ev cL_law 771 ([v0, v1, v2, v3, v4, v5, v6], []) [v, r0] h)) := exF_cd (i := (i_cv 4 340 1 771)) rfl rfl
theorem eL_law_771 {ev : xV} {v0 v1 v2 v3 v4 v5 v6 : Option Value} {x y : Int32} {st : List Value} {h : xH} : exF ev cL_law 771 ([v0, v1, v2, v3, v4, v5, v6], []) (.int y :: .int x :: st) h = if x = y then exF ev cL_law 1512 ([v0, v1, v2, v3, v4, v5, v6], []) st h else exF ev cL_law 774 ([v0, v1, v2, v3, v4, v5, v6], []) st h := exF_b (i := (i_if2 (fun x y => x = y) 1512 774)) rfl rfl
theorem eL_law_774 {ev : xV} {v0 v1 v2 v3 v4 v5 v6 : Option Value} {st : List Value} {h : xH} : exF ev cL_law 774 ([v0, v1, v2, v3, v4, v5, v6], []) st h = exF ev cL_law 775 ([v0, v1, v2, v3, v4, v5, v6], []) (.int (nI 0) :: st) h := exF_j (i := (i_const (.int (nI 0)) 775)) rfl rfl
theorem eL_law_775 {ev : xV} {v0 v1 v2 v3 v4 v5 v6 : Option Value} {x : Int32} {h : xH} : exF ev cL_law 775 ([v0, v1, v2, v3, v4, v5, v6], []) [.int x] h = if x = nI 0 ∨ x = nI 1 then some (.inl (some (.int x)), h) else none := exF_z (i := (i_zret)) rfl rfl
theorem eL_law_775b0 {ev : xV} {v0 v1 v2 v3 v4 v5 v6 : Option Value} {h : xH} : exF ev cL_law 775 ([v0, v1, v2, v3, v4, v5, v6], []) [.int (nI 0)] h = some (.inl (some (.int (nI 0))), h) := exF_r (i := (i_zret)) rfl i_zret_0
theorem eL_law_775b1 {ev : xV} {v0 v1 v2 v3 v4 v5 v6 : Option Value} {h : xH} : exF ev cL_law 775 ([v0, v1, v2, v3, v4, v5, v6], []) [.int (nI 1)] h = some (.inl (some (.int (nI 1))), h) := exF_r (i := (i_zret)) rfl i_zret_1
theorem eL_law_775b {ev : xV} {v0 v1 v2 v3 v4 v5 v6 : Option Value} {b : Bool} {h : xH} : exF ev cL_law 775 ([v0, v1, v2, v3, v4, v5, v6], []) [.int (bI b)] h = some (.inl (some (.int (bI b))), h) := exF_r (i := (i_zret)) rfl (i_zret_b b)
theorem eL_law_776 {ev : xV} {v0 v2 v3 v4 v5 v6 : Option Value} {x : Nat} {st : List Value} {h : xH} : exF ev cL_law 776 ([v0, some (.ref x), v2, v3, v4, v5, v6], []) st h = exF ev cL_law 777 ([v0, some (.ref x), v2, v3, v4, v5, v6], []) (.ref x :: st) h := exF_j (i := (i_aload 1 777)) rfl rfl
theorem eL_law_777 {ev : xV} {v0 v1 v2 v3 v4 v5 v6 : Option Value} {a : Nat} {h : xH} : exF ev cL_law 777 ([v0, v1, v2, v3, v4, v5, v6], []) [.ref a] h = xO (xck h a 0) (fun _ => xB (ev 135 [.ref a] h) (fun v h => exF ev cL_law 780 ([v0, v1, v2, v3, v4, v5, v6], []) [v] h)) := exF_cd (i := (i_cv 0 135 0 780)) rfl rfl
theorem eL_law_780 {ev : xV} {v0 v1 v3 v4 v5 v6 : Option Value} {x : Nat} {st : List Value} {h : xH} : exF ev cL_law 780 ([v0, v1, some (.ref x), v3, v4, v5, v6], []) st h = exF ev cL_law 781 ([v0, v1, some (.ref x), v3, v4, v5, v6], []) (.ref x :: st) h := exF_j (i := (i_aload 2 781)) rfl rfl
theorem eL_law_781 {ev : xV} {v0 v1 v2 v3 v4 v5 v6 : Option Value} {r0 : Value} {a : Nat} {h : xH} : exF ev cL_law 781 ([v0, v1, v2, v3, v4, v5, v6], []) [.ref a, r0] h = xO (xck h a 4) (fun _ => xB (ev 341 [.ref a] h) (fun v h => exF ev cL_law 784 ([v0, v1, v2, v3, v4, v5, v6], []) [v, r0] h)) := exF_cd (i := (i_cv 4 341 0 784)) rfl rfl
theorem eL_law_784 {ev : xV} {v0 v1 v2 v3 v4 v5 v6 : Option Value} {x y : Int32} {st : List Value} {h : xH} : exF ev cL_law 784 ([v0, v1, v2, v3, v4, v5, v6], []) (.int y :: .int x :: st) h = if x = y then exF ev cL_law 1512 ([v0, v1, v2, v3, v4, v5, v6], []) st h else exF ev cL_law 787 ([v0, v1, v2, v3, v4, v5, v6], []) st h := exF_b (i := (i_if2 (fun x y => x = y) 1512 787)) rfl rfl
theorem eL_law_787 {ev : xV} {v0 v1 v2 v3 v4 v5 v6 : Option Value} {st : List Value} {h : xH} : exF ev cL_law 787 ([v0, v1, v2, v3, v4, v5, v6], []) st h = exF ev cL_law 788 ([v0, v1, v2, v3, v4, v5, v6], []) (.int (nI 0) :: st) h := exF_j (i := (i_const (.int (nI 0)) 788)) rfl rfl
theorem eL_law_788 {ev : xV} {v0 v1 v2 v3 v4 v5 v6 : Option Value} {x : Int32} {h : xH} : exF ev cL_law 788 ([v0, v1, v2, v3, v4, v5, v6], []) [.int x] h = if x = nI 0 ∨ x = nI 1 then some (.inl (some (.int x)), h) else none := exF_z (i := (i_zret)) rfl rfl
theorem eL_law_788b0 {ev : xV} {v0 v1 v2 v3 v4 v5 v6 : Option Value} {h : xH} : exF ev cL_law 788 ([v0, v1, v2, v3, v4, v5, v6], []) [.int (nI 0)] h = some (.inl (some (.int (nI 0))), h) := exF_r (i := (i_zret)) rfl i_zret_0
theorem eL_law_788b1 {ev : xV} {v0 v1 v2 v3 v4 v5 v6 : Option Value} {h : xH} : exF ev cL_law 788 ([v0, v1, v2, v3, v4, v5, v6], []) [.int (nI 1)] h = some (.inl (some (.int (nI 1))), h) := exF_r (i := (i_zret)) rfl i_zret_1
theorem eL_law_788b {ev : xV} {v0 v1 v2 v3 v4 v5 v6 : Option Value} {b : Bool} {h : xH} : exF ev cL_law 788 ([v0, v1, v2, v3, v4, v5, v6], []) [.int (bI b)] h = some (.inl (some (.int (bI b))), h) := exF_r (i := (i_zret)) rfl (i_zret_b b)
theorem eL_law_789 {ev : xV} {v0 v2 v3 v4 v5 v6 : Option Value} {x : Nat} {st : List Value} {h : xH} : exF ev cL_law 789 ([v0, some (.ref x), v2, v3, v4, v5, v6], []) st h = exF ev cL_law 790 ([v0, some (.ref x), v2, v3, v4, v5, v6], []) (.ref x :: st) h := exF_j (i := (i_aload 1 790)) rfl rfl
theorem eL_law_790 {ev : xV} {v0 v1 v2 v3 v4 v5 v6 : Option Value} {a : Nat} {h : xH} : exF ev cL_law 790 ([v0, v1, v2, v3, v4, v5, v6], []) [.ref a] h = xO (xck h a 0) (fun _ => xB (ev 136 [.ref a] h) (fun v h => exF ev cL_law 793 ([v0, v1, v2, v3, v4, v5, v6], []) [v] h)) := exF_cd (i := (i_cv 0 136 0 793)) rfl rfl
theorem eL_law_793 {ev : xV} {v0 v1 v3 v4 v5 v6 : Option Value} {x : Nat} {st : List Value} {h : xH} : exF ev cL_law 793 ([v0, v1, some (.ref x), v3, v4, v5, v6], []) st h = exF ev cL_law 794 ([v0, v1, some (.ref x), v3, v4, v5, v6], []) (.ref x :: st) h := exF_j (i := (i_aload 2 794)) rfl rfl
theorem eL_law_794 {ev : xV} {v0 v1 v2 v3 v4 v5 v6 : Option Value} {r0 : Value} {a : Nat} {h : xH} : exF ev cL_law 794 ([v0, v1, v2, v3, v4, v5, v6], []) [.ref a, r0] h = xO (xck h a 4) (fun _ => xB (ev 342 [.ref a] h) (fun v h => exF ev cL_law 797 ([v0, v1, v2, v3, v4, v5, v6], []) [v, r0] h)) := exF_cd (i := (i_cv 4 342 0 797)) rfl rfl
theorem eL_law_797 {ev : xV} {v0 v1 v2 v3 v4 v5 v6 : Option Value} {x y : Int32} {st : List Value} {h : xH} : exF ev cL_law 797 ([v0, v1, v2, v3, v4, v5, v6], []) (.int y :: .int x :: st) h = if x = y then exF ev cL_law 1512 ([v0, v1, v2, v3, v4, v5, v6], []) st h else exF ev cL_law 800 ([v0, v1, v2, v3, v4, v5, v6], []) st h := exF_b (i := (i_if2 (fun x y => x = y) 1512 800)) rfl rfl
theorem eL_law_800 {ev : xV} {v0 v1 v2 v3 v4 v5 v6 : Option Value} {st : List Value} {h : xH} : exF ev cL_law 800 ([v0, v1, v2, v3, v4, v5, v6], []) st h = exF ev cL_law 801 ([v0, v1, v2, v3, v4, v5, v6], []) (.int (nI 0) :: st) h := exF_j (i := (i_const (.int (nI 0)) 801)) rfl rfl
theorem eL_law_801 {ev : xV} {v0 v1 v2 v3 v4 v5 v6 : Option Value} {x : Int32} {h : xH} : exF ev cL_law 801 ([v0, v1, v2, v3, v4, v5, v6], []) [.int x] h = if x = nI 0 ∨ x = nI 1 then some (.inl (some (.int x)), h) else none := exF_z (i := (i_zret)) rfl rfl
theorem eL_law_801b0 {ev : xV} {v0 v1 v2 v3 v4 v5 v6 : Option Value} {h : xH} : exF ev cL_law 801 ([v0, v1, v2, v3, v4, v5, v6], []) [.int (nI 0)] h = some (.inl (some (.int (nI 0))), h) := exF_r (i := (i_zret)) rfl i_zret_0
theorem eL_law_801b1 {ev : xV} {v0 v1 v2 v3 v4 v5 v6 : Option Value} {h : xH} : exF ev cL_law 801 ([v0, v1, v2, v3, v4, v5, v6], []) [.int (nI 1)] h = some (.inl (some (.int (nI 1))), h) := exF_r (i := (i_zret)) rfl i_zret_1
theorem eL_law_801b {ev : xV} {v0 v1 v2 v3 v4 v5 v6 : Option Value} {b : Bool} {h : xH} : exF ev cL_law 801 ([v0, v1, v2, v3, v4, v5, v6], []) [.int (bI b)] h = some (.inl (some (.int (bI b))), h) := exF_r (i := (i_zret)) rfl (i_zret_b b)
theorem eL_law_802 {ev : xV} {v0 v2 v3 v4 v5 v6 : Option Value} {x : Nat} {st : List Value} {h : xH} : exF ev cL_law 802 ([v0, some (.ref x), v2, v3, v4, v5, v6], []) st h = exF ev cL_law 803 ([v0, some (.ref x), v2, v3, v4, v5, v6], []) (.ref x :: st) h := exF_j (i := (i_aload 1 803)) rfl rfl
theorem eL_law_803 {ev : xV} {v1 v2 v3 v4 v5 v6 : Option Value} {x : Nat} {st : List Value} {h : xH} : exF ev cL_law 803 ([some (.ref x), v1, v2, v3, v4, v5, v6], []) st h = exF ev cL_law 804 ([some (.ref x), v1, v2, v3, v4, v5, v6], []) (.ref x :: st) h := exF_j (i := (i_aload 0 804)) rfl rfl
theorem eL_law_804 {ev : xV} {v0 v1 v2 v3 v5 v6 : Option Value} {x : Int32} {st : List Value} {h : xH} : exF ev cL_law 804 ([v0, v1, v2, v3, some (.int x), v5, v6], []) st h = exF ev cL_law 806 ([v0, v1, v2, v3, some (.int x), v5, v6], []) (.int x :: st) h := exF_j (i := (i_iload 4 806)) rfl rfl
theorem eL_law_806 {ev : xV} {v0 v1 v2 v3 v4 v5 v6 : Option Value} {st : List Value} {h : xH} : exF ev cL_law 806 ([v0, v1, v2, v3, v4, v5, v6], []) st h = exF ev cL_law 807 ([v0, v1, v2, v3, v4, v5, v6], []) (.int (nI 1) :: st) h := exF_j (i := (i_const (.int (nI 1)) 807)) rfl rfl
theorem eL_law_807 {ev : xV} {v0 v1 v2 v3 v4 v5 v6 : Option Value} {x y : Int32} {st : List Value} {h : xH} : exF ev cL_law 807 ([v0, v1, v2, v3, v4, v5, v6], []) (.int y :: .int x :: st) h = exF ev cL_law 808 ([v0, v1, v2, v3, v4, v5, v6], []) (.int (x + y) :: st) h := exF_j (i := (i_ii (fun x y => x + y) 808)) rfl rfl
theorem eL_law_808 {ev : xV} {v0 v1 v2 v3 v4 v5 v6 : Option Value} {i : Int32} {a : Nat} {st : List Value} {h : xH} : exF ev cL_law 808 ([v0, v1, v2, v3, v4, v5, v6], []) (.int i :: .ref a :: st) h = xO (xai h 0 a i) (fun v => exF ev cL_law 809 ([v0, v1, v2, v3, v4, v5, v6], []) (.int v :: st) h) := exF_o (i := (i_ai 0 809)) rfl rfl
theorem eL_law_809 {ev : xV} {v1 v2 v3 v4 v5 v6 : Option Value} {x : Nat} {st : List Value} {h : xH} : exF ev cL_law 809 ([some (.ref x), v1, v2, v3, v4, v5, v6], []) st h = exF ev cL_law 810 ([some (.ref x), v1, v2, v3, v4, v5, v6], []) (.ref x :: st) h := exF_j (i := (i_aload 0 810)) rfl rfl
theorem eL_law_810 {ev : xV} {v0 v1 v2 v3 v5 v6 : Option Value} {x : Int32} {st : List Value} {h : xH} : exF ev cL_law 810 ([v0, v1, v2, v3, some (.int x), v5, v6], []) st h = exF ev cL_law 812 ([v0, v1, v2, v3, some (.int x), v5, v6], []) (.int x :: st) h := exF_j (i := (i_iload 4 812)) rfl rfl
theorem eL_law_812 {ev : xV} {v0 v1 v2 v3 v4 v5 v6 : Option Value} {st : List Value} {h : xH} : exF ev cL_law 812 ([v0, v1, v2, v3, v4, v5, v6], []) st h = exF ev cL_law 813 ([v0, v1, v2, v3, v4, v5, v6], []) (.int (nI 2) :: st) h := exF_j (i := (i_const (.int (nI 2)) 813)) rfl rfl
theorem eL_law_813 {ev : xV} {v0 v1 v2 v3 v4 v5 v6 : Option Value} {x y : Int32} {st : List Value} {h : xH} : exF ev cL_law 813 ([v0, v1, v2, v3, v4, v5, v6], []) (.int y :: .int x :: st) h = exF ev cL_law 814 ([v0, v1, v2, v3, v4, v5, v6], []) (.int (x + y) :: st) h := exF_j (i := (i_ii (fun x y => x + y) 814)) rfl rfl
theorem eL_law_814 {ev : xV} {v0 v1 v2 v3 v4 v5 v6 : Option Value} {i : Int32} {a : Nat} {st : List Value} {h : xH} : exF ev cL_law 814 ([v0, v1, v2, v3, v4, v5, v6], []) (.int i :: .ref a :: st) h = xO (xai h 0 a i) (fun v => exF ev cL_law 815 ([v0, v1, v2, v3, v4, v5, v6], []) (.int v :: st) h) := exF_o (i := (i_ai 0 815)) rfl rfl
theorem eL_law_815 {ev : xV} {v0 v1 v2 v3 v4 v5 v6 : Option Value} {a0 : Value} {a1 : Value} {a : Nat} {h : xH} : exF ev cL_law 815 ([v0, v1, v2, v3, v4, v5, v6], []) [a1, a0, .ref a] h = xO (xck h a 0) (fun _ => xB (ev 137 [.ref a, a0, a1] h) (fun v h => exF ev cL_law 818 ([v0, v1, v2, v3, v4, v5, v6], []) [v] h)) := exF_cd (i := (i_cv 0 137 2 818)) rfl rfl
theorem eL_law_818 {ev : xV} {v0 v1 v3 v4 v5 v6 : Option Value} {x : Nat} {st : List Value} {h : xH} : exF ev cL_law 818 ([v0, v1, some (.ref x), v3, v4, v5, v6], []) st h = exF ev cL_law 819 ([v0, v1, some (.ref x), v3, v4, v5, v6], []) (.ref x :: st) h := exF_j (i := (i_aload 2 819)) rfl rfl
theorem eL_law_819 {ev : xV} {v1 v2 v3 v4 v5 v6 : Option Value} {x : Nat} {st : List Value} {h : xH} : exF ev cL_law 819 ([some (.ref x), v1, v2, v3, v4, v5, v6], []) st h = exF ev cL_law 820 ([some (.ref x), v1, v2, v3, v4, v5, v6], []) (.ref x :: st) h := exF_j (i := (i_aload 0 820)) rfl rfl
theorem eL_law_820 {ev : xV} {v0 v1 v2 v3 v5 v6 : Option Value} {x : Int32} {st : List Value} {h : xH} : exF ev cL_law 820 ([v0, v1, v2, v3, some (.int x), v5, v6], []) st h = exF ev cL_law 822 ([v0, v1, v2, v3, some (.int x), v5, v6], []) (.int x :: st) h := exF_j (i := (i_iload 4 822)) rfl rfl
theorem eL_law_822 {ev : xV} {v0 v1 v2 v3 v4 v5 v6 : Option Value} {st : List Value} {h : xH} : exF ev cL_law 822 ([v0, v1, v2, v3, v4, v5, v6], []) st h = exF ev cL_law 823 ([v0, v1, v2, v3, v4, v5, v6], []) (.int (nI 1) :: st) h := exF_j (i := (i_const (.int (nI 1)) 823)) rfl rfl
theorem eL_law_823 {ev : xV} {v0 v1 v2 v3 v4 v5 v6 : Option Value} {x y : Int32} {st : List Value} {h : xH} : exF ev cL_law 823 ([v0, v1, v2, v3, v4, v5, v6], []) (.int y :: .int x :: st) h = exF ev cL_law 824 ([v0, v1, v2, v3, v4, v5, v6], []) (.int (x + y) :: st) h := exF_j (i := (i_ii (fun x y => x + y) 824)) rfl rfl
theorem eL_law_824 {ev : xV} {v0 v1 v2 v3 v4 v5 v6 : Option Value} {i : Int32} {a : Nat} {st : List Value} {h : xH} : exF ev cL_law 824 ([v0, v1, v2, v3, v4, v5, v6], []) (.int i :: .ref a :: st) h = xO (xai h 0 a i) (fun v => exF ev cL_law 825 ([v0, v1, v2, v3, v4, v5, v6], []) (.int v :: st) h) := exF_o (i := (i_ai 0 825)) rfl rfl
theorem eL_law_825 {ev : xV} {v1 v2 v3 v4 v5 v6 : Option Value} {x : Nat} {st : List Value} {h : xH} : exF ev cL_law 825 ([some (.ref x), v1, v2, v3, v4, v5, v6], []) st h = exF ev cL_law 826 ([some (.ref x), v1, v2, v3, v4, v5, v6], []) (.ref x :: st) h := exF_j (i := (i_aload 0 826)) rfl rfl
theorem eL_law_826 {ev : xV} {v0 v1 v2 v3 v5 v6 : Option Value} {x : Int32} {st : List Value} {h : xH} : exF ev cL_law 826 ([v0, v1, v2, v3, some (.int x), v5, v6], []) st h = exF ev cL_law 828 ([v0, v1, v2, v3, some (.int x), v5, v6], []) (.int x :: st) h := exF_j (i := (i_iload 4 828)) rfl rfl
theorem eL_law_828 {ev : xV} {v0 v1 v2 v3 v4 v5 v6 : Option Value} {st : List Value} {h : xH} : exF ev cL_law 828 ([v0, v1, v2, v3, v4, v5, v6], []) st h = exF ev cL_law 829 ([v0, v1, v2, v3, v4, v5, v6], []) (.int (nI 2) :: st) h := exF_j (i := (i_const (.int (nI 2)) 829)) rfl rfl
theorem eL_law_829 {ev : xV} {v0 v1 v2 v3 v4 v5 v6 : Option Value} {x y : Int32} {st : List Value} {h : xH} : exF ev cL_law 829 ([v0, v1, v2, v3, v4, v5, v6], []) (.int y :: .int x :: st) h = exF ev cL_law 830 ([v0, v1, v2, v3, v4, v5, v6], []) (.int (x + y) :: st) h := exF_j (i := (i_ii (fun x y => x + y) 830)) rfl rfl
theorem eL_law_830 {ev : xV} {v0 v1 v2 v3 v4 v5 v6 : Option Value} {i : Int32} {a : Nat} {st : List Value} {h : xH} : exF ev cL_law 830 ([v0, v1, v2, v3, v4, v5, v6], []) (.int i :: .ref a :: st) h = xO (xai h 0 a i) (fun v => exF ev cL_law 831 ([v0, v1, v2, v3, v4, v5, v6], []) (.int v :: st) h) := exF_o (i := (i_ai 0 831)) rfl rfl
theorem eL_law_831 {ev : xV} {v0 v1 v2 v3 v4 v5 v6 : Option Value} {a0 : Value} {a1 : Value} {r0 : Value} {a : Nat} {h : xH} : exF ev cL_law 831 ([v0, v1, v2, v3, v4, v5, v6], []) [a1, a0, .ref a, r0] h = xO (xck h a 4) (fun _ => xB (ev 343 [.ref a, a0, a1] h) (fun v h => exF ev cL_law 834 ([v0, v1, v2, v3, v4, v5, v6], []) [v, r0] h)) := exF_cd (i := (i_cv 4 343 2 834)) rfl rfl
theorem eL_law_834 {ev : xV} {v0 v1 v2 v3 v4 v5 v6 : Option Value} {x y : Int32} {st : List Value} {h : xH} : exF ev cL_law 834 ([v0, v1, v2, v3, v4, v5, v6], []) (.int y :: .int x :: st) h = if x = y then exF ev cL_law 1512 ([v0, v1, v2, v3, v4, v5, v6], []) st h else exF ev cL_law 837 ([v0, v1, v2, v3, v4, v5, v6], []) st h := exF_b (i := (i_if2 (fun x y => x = y) 1512 837)) rfl rfl
theorem eL_law_837 {ev : xV} {v0 v1 v2 v3 v4 v5 v6 : Option Value} {st : List Value} {h : xH} : exF ev cL_law 837 ([v0, v1, v2, v3, v4, v5, v6], []) st h = exF ev cL_law 838 ([v0, v1, v2, v3, v4, v5, v6], []) (.int (nI 0) :: st) h := exF_j (i := (i_const (.int (nI 0)) 838)) rfl rfl
theorem eL_law_838 {ev : xV} {v0 v1 v2 v3 v4 v5 v6 : Option Value} {x : Int32} {h : xH} : exF ev cL_law 838 ([v0, v1, v2, v3, v4, v5, v6], []) [.int x] h = if x = nI 0 ∨ x = nI 1 then some (.inl (some (.int x)), h) else none := exF_z (i := (i_zret)) rfl rfl
theorem eL_law_838b0 {ev : xV} {v0 v1 v2 v3 v4 v5 v6 : Option Value} {h : xH} : exF ev cL_law 838 ([v0, v1, v2, v3, v4, v5, v6], []) [.int (nI 0)] h = some (.inl (some (.int (nI 0))), h) := exF_r (i := (i_zret)) rfl i_zret_0
theorem eL_law_838b1 {ev : xV} {v0 v1 v2 v3 v4 v5 v6 : Option Value} {h : xH} : exF ev cL_law 838 ([v0, v1, v2, v3, v4, v5, v6], []) [.int (nI 1)] h = some (.inl (some (.int (nI 1))), h) := exF_r (i := (i_zret)) rfl i_zret_1
theorem eL_law_838b {ev : xV} {v0 v1 v2 v3 v4 v5 v6 : Option Value} {b : Bool} {h : xH} : exF ev cL_law 838 ([v0, v1, v2, v3, v4, v5, v6], []) [.int (bI b)] h = some (.inl (some (.int (bI b))), h) := exF_r (i := (i_zret)) rfl (i_zret_b b)
theorem eL_law_839 {ev : xV} {v0 v2 v3 v4 v5 v6 : Option Value} {x : Nat} {st : List Value} {h : xH} : exF ev cL_law 839 ([v0, some (.ref x), v2, v3, v4, v5, v6], []) st h = exF ev cL_law 840 ([v0, some (.ref x), v2, v3, v4, v5, v6], []) (.ref x :: st) h := exF_j (i := (i_aload 1 840)) rfl rfl
theorem eL_law_840 {ev : xV} {v1 v2 v3 v4 v5 v6 : Option Value} {x : Nat} {st : List Value} {h : xH} : exF ev cL_law 840 ([some (.ref x), v1, v2, v3, v4, v5, v6], []) st h = exF ev cL_law 841 ([some (.ref x), v1, v2, v3, v4, v5, v6], []) (.ref x :: st) h := exF_j (i := (i_aload 0 841)) rfl rfl
theorem eL_law_841 {ev : xV} {v0 v1 v2 v3 v5 v6 : Option Value} {x : Int32} {st : List Value} {h : xH} : exF ev cL_law 841 ([v0, v1, v2, v3, some (.int x), v5, v6], []) st h = exF ev cL_law 843 ([v0, v1, v2, v3, some (.int x), v5, v6], []) (.int x :: st) h := exF_j (i := (i_iload 4 843)) rfl rfl
theorem eL_law_843 {ev : xV} {v0 v1 v2 v3 v4 v5 v6 : Option Value} {st : List Value} {h : xH} : exF ev cL_law 843 ([v0, v1, v2, v3, v4, v5, v6], []) st h = exF ev cL_law 844 ([v0, v1, v2, v3, v4, v5, v6], []) (.int (nI 1) :: st) h := exF_j (i := (i_const (.int (nI 1)) 844)) rfl rfl
theorem eL_law_844 {ev : xV} {v0 v1 v2 v3 v4 v5 v6 : Option Value} {x y : Int32} {st : List Value} {h : xH} : exF ev cL_law 844 ([v0, v1, v2, v3, v4, v5, v6], []) (.int y :: .int x :: st) h = exF ev cL_law 845 ([v0, v1, v2, v3, v4, v5, v6], []) (.int (x + y) :: st) h := exF_j (i := (i_ii (fun x y => x + y) 845)) rfl rfl
theorem eL_law_845 {ev : xV} {v0 v1 v2 v3 v4 v5 v6 : Option Value} {i : Int32} {a : Nat} {st : List Value} {h : xH} : exF ev cL_law 845 ([v0, v1, v2, v3, v4, v5, v6], []) (.int i :: .ref a :: st) h = xO (xai h 0 a i) (fun v => exF ev cL_law 846 ([v0, v1, v2, v3, v4, v5, v6], []) (.int v :: st) h) := exF_o (i := (i_ai 0 846)) rfl rfl
theorem eL_law_846 {ev : xV} {v1 v2 v3 v4 v5 v6 : Option Value} {x : Nat} {st : List Value} {h : xH} : exF ev cL_law 846 ([some (.ref x), v1, v2, v3, v4, v5, v6], []) st h = exF ev cL_law 847 ([some (.ref x), v1, v2, v3, v4, v5, v6], []) (.ref x :: st) h := exF_j (i := (i_aload 0 847)) rfl rfl
theorem eL_law_847 {ev : xV} {v0 v1 v2 v3 v5 v6 : Option Value} {x : Int32} {st : List Value} {h : xH} : exF ev cL_law 847 ([v0, v1, v2, v3, some (.int x), v5, v6], []) st h = exF ev cL_law 849 ([v0, v1, v2, v3, some (.int x), v5, v6], []) (.int x :: st) h := exF_j (i := (i_iload 4 849)) rfl rfl
theorem eL_law_849 {ev : xV} {v0 v1 v2 v3 v4 v5 v6 : Option Value} {st : List Value} {h : xH} : exF ev cL_law 849 ([v0, v1, v2, v3, v4, v5, v6], []) st h = exF ev cL_law 850 ([v0, v1, v2, v3, v4, v5, v6], []) (.int (nI 2) :: st) h := exF_j (i := (i_const (.int (nI 2)) 850)) rfl rfl
theorem eL_law_850 {ev : xV} {v0 v1 v2 v3 v4 v5 v6 : Option Value} {x y : Int32} {st : List Value} {h : xH} : exF ev cL_law 850 ([v0, v1, v2, v3, v4, v5, v6], []) (.int y :: .int x :: st) h = exF ev cL_law 851 ([v0, v1, v2, v3, v4, v5, v6], []) (.int (x + y) :: st) h := exF_j (i := (i_ii (fun x y => x + y) 851)) rfl rfl
theorem eL_law_851 {ev : xV} {v0 v1 v2 v3 v4 v5 v6 : Option Value} {i : Int32} {a : Nat} {st : List Value} {h : xH} : exF ev cL_law 851 ([v0, v1, v2, v3, v4, v5, v6], []) (.int i :: .ref a :: st) h = xO (xai h 0 a i) (fun v => exF ev cL_law 852 ([v0, v1, v2, v3, v4, v5, v6], []) (.int v :: st) h) := exF_o (i := (i_ai 0 852)) rfl rfl
theorem eL_law_852 {ev : xV} {v0 v1 v2 v3 v4 v5 v6 : Option Value} {a0 : Value} {a1 : Value} {a : Nat} {h : xH} : exF ev cL_law 852 ([v0, v1, v2, v3, v4, v5, v6], []) [a1, a0, .ref a] h = xO (xck h a 0) (fun _ => xB (ev 139 [.ref a, a0, a1] h) (fun v h => exF ev cL_law 855 ([v0, v1, v2, v3, v4, v5, v6], []) [v] h)) := exF_cd (i := (i_cv 0 139 2 855)) rfl rfl
theorem eL_law_855 {ev : xV} {v0 v1 v3 v4 v5 v6 : Option Value} {x : Nat} {st : List Value} {h : xH} : exF ev cL_law 855 ([v0, v1, some (.ref x), v3, v4, v5, v6], []) st h = exF ev cL_law 856 ([v0, v1, some (.ref x), v3, v4, v5, v6], []) (.ref x :: st) h := exF_j (i := (i_aload 2 856)) rfl rfl
theorem eL_law_856 {ev : xV} {v1 v2 v3 v4 v5 v6 : Option Value} {x : Nat} {st : List Value} {h : xH} : exF ev cL_law 856 ([some (.ref x), v1, v2, v3, v4, v5, v6], []) st h = exF ev cL_law 857 ([some (.ref x), v1, v2, v3, v4, v5, v6], []) (.ref x :: st) h := exF_j (i := (i_aload 0 857)) rfl rfl
theorem eL_law_857 {ev : xV} {v0 v1 v2 v3 v5 v6 : Option Value} {x : Int32} {st : List Value} {h : xH} : exF ev cL_law 857 ([v0, v1, v2, v3, some (.int x), v5, v6], []) st h = exF ev cL_law 859 ([v0, v1, v2, v3, some (.int x), v5, v6], []) (.int x :: st) h := exF_j (i := (i_iload 4 859)) rfl rfl
theorem eL_law_859 {ev : xV} {v0 v1 v2 v3 v4 v5 v6 : Option Value} {st : List Value} {h : xH} : exF ev cL_law 859 ([v0, v1, v2, v3, v4, v5, v6], []) st h = exF ev cL_law 860 ([v0, v1, v2, v3, v4, v5, v6], []) (.int (nI 1) :: st) h := exF_j (i := (i_const (.int (nI 1)) 860)) rfl rfl
theorem eL_law_860 {ev : xV} {v0 v1 v2 v3 v4 v5 v6 : Option Value} {x y : Int32} {st : List Value} {h : xH} : exF ev cL_law 860 ([v0, v1, v2, v3, v4, v5, v6], []) (.int y :: .int x :: st) h = exF ev cL_law 861 ([v0, v1, v2, v3, v4, v5, v6], []) (.int (x + y) :: st) h := exF_j (i := (i_ii (fun x y => x + y) 861)) rfl rfl
theorem eL_law_861 {ev : xV} {v0 v1 v2 v3 v4 v5 v6 : Option Value} {i : Int32} {a : Nat} {st : List Value} {h : xH} : exF ev cL_law 861 ([v0, v1, v2, v3, v4, v5, v6], []) (.int i :: .ref a :: st) h = xO (xai h 0 a i) (fun v => exF ev cL_law 862 ([v0, v1, v2, v3, v4, v5, v6], []) (.int v :: st) h) := exF_o (i := (i_ai 0 862)) rfl rfl
theorem eL_law_862 {ev : xV} {v1 v2 v3 v4 v5 v6 : Option Value} {x : Nat} {st : List Value} {h : xH} : exF ev cL_law 862 ([some (.ref x), v1, v2, v3, v4, v5, v6], []) st h = exF ev cL_law 863 ([some (.ref x), v1, v2, v3, v4, v5, v6], []) (.ref x :: st) h := exF_j (i := (i_aload 0 863)) rfl rfl
theorem eL_law_863 {ev : xV} {v0 v1 v2 v3 v5 v6 : Option Value} {x : Int32} {st : List Value} {h : xH} : exF ev cL_law 863 ([v0, v1, v2, v3, some (.int x), v5, v6], []) st h = exF ev cL_law 865 ([v0, v1, v2, v3, some (.int x), v5, v6], []) (.int x :: st) h := exF_j (i := (i_iload 4 865)) rfl rfl
theorem eL_law_865 {ev : xV} {v0 v1 v2 v3 v4 v5 v6 : Option Value} {st : List Value} {h : xH} : exF ev cL_law 865 ([v0, v1, v2, v3, v4, v5, v6], []) st h = exF ev cL_law 866 ([v0, v1, v2, v3, v4, v5, v6], []) (.int (nI 2) :: st) h := exF_j (i := (i_const (.int (nI 2)) 866)) rfl rfl
theorem eL_law_866 {ev : xV} {v0 v1 v2 v3 v4 v5 v6 : Option Value} {x y : Int32} {st : List Value} {h : xH} : exF ev cL_law 866 ([v0, v1, v2, v3, v4, v5, v6], []) (.int y :: .int x :: st) h = exF ev cL_law 867 ([v0, v1, v2, v3, v4, v5, v6], []) (.int (x + y) :: st) h := exF_j (i := (i_ii (fun x y => x + y) 867)) rfl rfl
theorem eL_law_867 {ev : xV} {v0 v1 v2 v3 v4 v5 v6 : Option Value} {i : Int32} {a : Nat} {st : List Value} {h : xH} : exF ev cL_law 867 ([v0, v1, v2, v3, v4, v5, v6], []) (.int i :: .ref a :: st) h = xO (xai h 0 a i) (fun v => exF ev cL_law 868 ([v0, v1, v2, v3, v4, v5, v6], []) (.int v :: st) h) := exF_o (i := (i_ai 0 868)) rfl rfl
theorem eL_law_868 {ev : xV} {v0 v1 v2 v3 v4 v5 v6 : Option Value} {a0 : Value} {a1 : Value} {r0 : Value} {a : Nat} {h : xH} : exF ev cL_law 868 ([v0, v1, v2, v3, v4, v5, v6], []) [a1, a0, .ref a, r0] h = xO (xck h a 4) (fun _ => xB (ev 346 [.ref a, a0, a1] h) (fun v h => exF ev cL_law 871 ([v0, v1, v2, v3, v4, v5, v6], []) [v, r0] h)) := exF_cd (i := (i_cv 4 346 2 871)) rfl rfl
theorem eL_law_871 {ev : xV} {v0 v1 v2 v3 v4 v5 v6 : Option Value} {x y : Int32} {st : List Value} {h : xH} : exF ev cL_law 871 ([v0, v1, v2, v3, v4, v5, v6], []) (.int y :: .int x :: st) h = if x = y then exF ev cL_law 1512 ([v0, v1, v2, v3, v4, v5, v6], []) st h else exF ev cL_law 874 ([v0, v1, v2, v3, v4, v5, v6], []) st h := exF_b (i := (i_if2 (fun x y => x = y) 1512 874)) rfl rfl
theorem eL_law_874 {ev : xV} {v0 v1 v2 v3 v4 v5 v6 : Option Value} {st : List Value} {h : xH} : exF ev cL_law 874 ([v0, v1, v2, v3, v4, v5, v6], []) st h = exF ev cL_law 875 ([v0, v1, v2, v3, v4, v5, v6], []) (.int (nI 0) :: st) h := exF_j (i := (i_const (.int (nI 0)) 875)) rfl rfl
theorem eL_law_875 {ev : xV} {v0 v1 v2 v3 v4 v5 v6 : Option Value} {x : Int32} {h : xH} : exF ev cL_law 875 ([v0, v1, v2, v3, v4, v5, v6], []) [.int x] h = if x = nI 0 ∨ x = nI 1 then some (.inl (some (.int x)), h) else none := exF_z (i := (i_zret)) rfl rfl
theorem eL_law_875b0 {ev : xV} {v0 v1 v2 v3 v4 v5 v6 : Option Value} {h : xH} : exF ev cL_law 875 ([v0, v1, v2, v3, v4, v5, v6], []) [.int (nI 0)] h = some (.inl (some (.int (nI 0))), h) := exF_r (i := (i_zret)) rfl i_zret_0
theorem eL_law_875b1 {ev : xV} {v0 v1 v2 v3 v4 v5 v6 : Option Value} {h : xH} : exF ev cL_law 875 ([v0, v1, v2, v3, v4, v5, v6], []) [.int (nI 1)] h = some (.inl (some (.int (nI 1))), h) := exF_r (i := (i_zret)) rfl i_zret_1
theorem eL_law_875b {ev : xV} {v0 v1 v2 v3 v4 v5 v6 : Option Value} {b : Bool} {h : xH} : exF ev cL_law 875 ([v0, v1, v2, v3, v4, v5, v6], []) [.int (bI b)] h = some (.inl (some (.int (bI b))), h) := exF_r (i := (i_zret)) rfl (i_zret_b b)
theorem eL_law_876 {ev : xV} {v0 v2 v3 v4 v5 v6 : Option Value} {x : Nat} {st : List Value} {h : xH} : exF ev cL_law 876 ([v0, some (.ref x), v2, v3, v4, v5, v6], []) st h = exF ev cL_law 877 ([v0, some (.ref x), v2, v3, v4, v5, v6], []) (.ref x :: st) h := exF_j (i := (i_aload 1 877)) rfl rfl
theorem eL_law_877 {ev : xV} {v1 v2 v3 v4 v5 v6 : Option Value} {x : Nat} {st : List Value} {h : xH} : exF ev cL_law 877 ([some (.ref x), v1, v2, v3, v4, v5, v6], []) st h = exF ev cL_law 878 ([some (.ref x), v1, v2, v3, v4, v5, v6], []) (.ref x :: st) h := exF_j (i := (i_aload 0 878)) rfl rfl
theorem eL_law_878 {ev : xV} {v0 v1 v2 v3 v5 v6 : Option Value} {x : Int32} {st : List Value} {h : xH} : exF ev cL_law 878 ([v0, v1, v2, v3, some (.int x), v5, v6], []) st h = exF ev cL_law 880 ([v0, v1, v2, v3, some (.int x), v5, v6], []) (.int x :: st) h := exF_j (i := (i_iload 4 880)) rfl rfl
theorem eL_law_880 {ev : xV} {v0 v1 v2 v3 v4 v5 v6 : Option Value} {st : List Value} {h : xH} : exF ev cL_law 880 ([v0, v1, v2, v3, v4, v5, v6], []) st h = exF ev cL_law 881 ([v0, v1, v2, v3, v4, v5, v6], []) (.int (nI 1) :: st) h := exF_j (i := (i_const (.int (nI 1)) 881)) rfl rfl
theorem eL_law_881 {ev : xV} {v0 v1 v2 v3 v4 v5 v6 : Option Value} {x y : Int32} {st : List Value} {h : xH} : exF ev cL_law 881 ([v0, v1, v2, v3, v4, v5, v6], []) (.int y :: .int x :: st) h = exF ev cL_law 882 ([v0, v1, v2, v3, v4, v5, v6], []) (.int (x + y) :: st) h := exF_j (i := (i_ii (fun x y => x + y) 882)) rfl rfl
theorem eL_law_882 {ev : xV} {v0 v1 v2 v3 v4 v5 v6 : Option Value} {i : Int32} {a : Nat} {st : List Value} {h : xH} : exF ev cL_law 882 ([v0, v1, v2, v3, v4, v5, v6], []) (.int i :: .ref a :: st) h = xO (xai h 0 a i) (fun v => exF ev cL_law 883 ([v0, v1, v2, v3, v4, v5, v6], []) (.int v :: st) h) := exF_o (i := (i_ai 0 883)) rfl rfl
theorem eL_law_883 {ev : xV} {v1 v2 v3 v4 v5 v6 : Option Value} {x : Nat} {st : List Value} {h : xH} : exF ev cL_law 883 ([some (.ref x), v1, v2, v3, v4, v5, v6], []) st h = exF ev cL_law 884 ([some (.ref x), v1, v2, v3, v4, v5, v6], []) (.ref x :: st) h := exF_j (i := (i_aload 0 884)) rfl rfl
theorem eL_law_884 {ev : xV} {v0 v1 v2 v3 v5 v6 : Option Value} {x : Int32} {st : List Value} {h : xH} : exF ev cL_law 884 ([v0, v1, v2, v3, some (.int x), v5, v6], []) st h = exF ev cL_law 886 ([v0, v1, v2, v3, some (.int x), v5, v6], []) (.int x :: st) h := exF_j (i := (i_iload 4 886)) rfl rfl
theorem eL_law_886 {ev : xV} {v0 v1 v2 v3 v4 v5 v6 : Option Value} {st : List Value} {h : xH} : exF ev cL_law 886 ([v0, v1, v2, v3, v4, v5, v6], []) st h = exF ev cL_law 887 ([v0, v1, v2, v3, v4, v5, v6], []) (.int (nI 2) :: st) h := exF_j (i := (i_const (.int (nI 2)) 887)) rfl rfl
theorem eL_law_887 {ev : xV} {v0 v1 v2 v3 v4 v5 v6 : Option Value} {x y : Int32} {st : List Value} {h : xH} : exF ev cL_law 887 ([v0, v1, v2, v3, v4, v5, v6], []) (.int y :: .int x :: st) h = exF ev cL_law 888 ([v0, v1, v2, v3, v4, v5, v6], []) (.int (x + y) :: st) h := exF_j (i := (i_ii (fun x y => x + y) 888)) rfl rfl
theorem eL_law_888 {ev : xV} {v0 v1 v2 v3 v4 v5 v6 : Option Value} {i : Int32} {a : Nat} {st : List Value} {h : xH} : exF ev cL_law 888 ([v0, v1, v2, v3, v4, v5, v6], []) (.int i :: .ref a :: st) h = xO (xai h 0 a i) (fun v => exF ev cL_law 889 ([v0, v1, v2, v3, v4, v5, v6], []) (.int v :: st) h) := exF_o (i := (i_ai 0 889)) rfl rfl
theorem eL_law_889 {ev : xV} {v0 v1 v2 v3 v4 v5 v6 : Option Value} {a0 : Value} {a1 : Value} {a : Nat} {h : xH} : exF ev cL_law 889 ([v0, v1, v2, v3, v4, v5, v6], []) [a1, a0, .ref a] h = xO (xck h a 0) (fun _ => xB (ev 140 [.ref a, a0, a1] h) (fun v h => exF ev cL_law 892 ([v0, v1, v2, v3, v4, v5, v6], []) [v] h)) := exF_cd (i := (i_cv 0 140 2 892)) rfl rfl
theorem eL_law_892 {ev : xV} {v0 v1 v3 v4 v5 v6 : Option Value} {x : Nat} {st : List Value} {h : xH} : exF ev cL_law 892 ([v0, v1, some (.ref x), v3, v4, v5, v6], []) st h = exF ev cL_law 893 ([v0, v1, some (.ref x), v3, v4, v5, v6], []) (.ref x :: st) h := exF_j (i := (i_aload 2 893)) rfl rfl
theorem eL_law_893 {ev : xV} {v1 v2 v3 v4 v5 v6 : Option Value} {x : Nat} {st : List Value} {h : xH} : exF ev cL_law 893 ([some (.ref x), v1, v2, v3, v4, v5, v6], []) st h = exF ev cL_law 894 ([some (.ref x), v1, v2, v3, v4, v5, v6], []) (.ref x :: st) h := exF_j (i := (i_aload 0 894)) rfl rfl
theorem eL_law_894 {ev : xV} {v0 v1 v2 v3 v5 v6 : Option Value} {x : Int32} {st : List Value} {h : xH} : exF ev cL_law 894 ([v0, v1, v2, v3, some (.int x), v5, v6], []) st h = exF ev cL_law 896 ([v0, v1, v2, v3, some (.int x), v5, v6], []) (.int x :: st) h := exF_j (i := (i_iload 4 896)) rfl rfl
theorem eL_law_896 {ev : xV} {v0 v1 v2 v3 v4 v5 v6 : Option Value} {st : List Value} {h : xH} : exF ev cL_law 896 ([v0, v1, v2, v3, v4, v5, v6], []) st h = exF ev cL_law 897 ([v0, v1, v2, v3, v4, v5, v6], []) (.int (nI 1) :: st) h := exF_j (i := (i_const (.int (nI 1)) 897)) rfl rfl
theorem eL_law_897 {ev : xV} {v0 v1 v2 v3 v4 v5 v6 : Option Value} {x y : Int32} {st : List Value} {h : xH} : exF ev cL_law 897 ([v0, v1, v2, v3, v4, v5, v6], []) (.int y :: .int x :: st) h = exF ev cL_law 898 ([v0, v1, v2, v3, v4, v5, v6], []) (.int (x + y) :: st) h := exF_j (i := (i_ii (fun x y => x + y) 898)) rfl rfl
theorem eL_law_898 {ev : xV} {v0 v1 v2 v3 v4 v5 v6 : Option Value} {i : Int32} {a : Nat} {st : List Value} {h : xH} : exF ev cL_law 898 ([v0, v1, v2, v3, v4, v5, v6], []) (.int i :: .ref a :: st) h = xO (xai h 0 a i) (fun v => exF ev cL_law 899 ([v0, v1, v2, v3, v4, v5, v6], []) (.int v :: st) h) := exF_o (i := (i_ai 0 899)) rfl rfl
theorem eL_law_899 {ev : xV} {v1 v2 v3 v4 v5 v6 : Option Value} {x : Nat} {st : List Value} {h : xH} : exF ev cL_law 899 ([some (.ref x), v1, v2, v3, v4, v5, v6], []) st h = exF ev cL_law 900 ([some (.ref x), v1, v2, v3, v4, v5, v6], []) (.ref x :: st) h := exF_j (i := (i_aload 0 900)) rfl rfl
theorem eL_law_900 {ev : xV} {v0 v1 v2 v3 v5 v6 : Option Value} {x : Int32} {st : List Value} {h : xH} : exF ev cL_law 900 ([v0, v1, v2, v3, some (.int x), v5, v6], []) st h = exF ev cL_law 902 ([v0, v1, v2, v3, some (.int x), v5, v6], []) (.int x :: st) h := exF_j (i := (i_iload 4 902)) rfl rfl
theorem eL_law_902 {ev : xV} {v0 v1 v2 v3 v4 v5 v6 : Option Value} {st : List Value} {h : xH} : exF ev cL_law 902 ([v0, v1, v2, v3, v4, v5, v6], []) st h = exF ev cL_law 903 ([v0, v1, v2, v3, v4, v5, v6], []) (.int (nI 2) :: st) h := exF_j (i := (i_const (.int (nI 2)) 903)) rfl rfl
theorem eL_law_903 {ev : xV} {v0 v1 v2 v3 v4 v5 v6 : Option Value} {x y : Int32} {st : List Value} {h : xH} : exF ev cL_law 903 ([v0, v1, v2, v3, v4, v5, v6], []) (.int y :: .int x :: st) h = exF ev cL_law 904 ([v0, v1, v2, v3, v4, v5, v6], []) (.int (x + y) :: st) h := exF_j (i := (i_ii (fun x y => x + y) 904)) rfl rfl
theorem eL_law_904 {ev : xV} {v0 v1 v2 v3 v4 v5 v6 : Option Value} {i : Int32} {a : Nat} {st : List Value} {h : xH} : exF ev cL_law 904 ([v0, v1, v2, v3, v4, v5, v6], []) (.int i :: .ref a :: st) h = xO (xai h 0 a i) (fun v => exF ev cL_law 905 ([v0, v1, v2, v3, v4, v5, v6], []) (.int v :: st) h) := exF_o (i := (i_ai 0 905)) rfl rfl
theorem eL_law_905 {ev : xV} {v0 v1 v2 v3 v4 v5 v6 : Option Value} {a0 : Value} {a1 : Value} {r0 : Value} {a : Nat} {h : xH} : exF ev cL_law 905 ([v0, v1, v2, v3, v4, v5, v6], []) [a1, a0, .ref a, r0] h = xO (xck h a 4) (fun _ => xB (ev 347 [.ref a, a0, a1] h) (fun v h => exF ev cL_law 908 ([v0, v1, v2, v3, v4, v5, v6], []) [v, r0] h)) := exF_cd (i := (i_cv 4 347 2 908)) rfl rfl
theorem eL_law_908 {ev : xV} {v0 v1 v2 v3 v4 v5 v6 : Option Value} {x y : Int32} {st : List Value} {h : xH} : exF ev cL_law 908 ([v0, v1, v2, v3, v4, v5, v6], []) (.int y :: .int x :: st) h = if x = y then exF ev cL_law 1512 ([v0, v1, v2, v3, v4, v5, v6], []) st h else exF ev cL_law 911 ([v0, v1, v2, v3, v4, v5, v6], []) st h := exF_b (i := (i_if2 (fun x y => x = y) 1512 911)) rfl rfl
theorem eL_law_911 {ev : xV} {v0 v1 v2 v3 v4 v5 v6 : Option Value} {st : List Value} {h : xH} : exF ev cL_law 911 ([v0, v1, v2, v3, v4, v5, v6], []) st h = exF ev cL_law 912 ([v0, v1, v2, v3, v4, v5, v6], []) (.int (nI 0) :: st) h := exF_j (i := (i_const (.int (nI 0)) 912)) rfl rfl
theorem eL_law_912 {ev : xV} {v0 v1 v2 v3 v4 v5 v6 : Option Value} {x : Int32} {h : xH} : exF ev cL_law 912 ([v0, v1, v2, v3, v4, v5, v6], []) [.int x] h = if x = nI 0 ∨ x = nI 1 then some (.inl (some (.int x)), h) else none := exF_z (i := (i_zret)) rfl rfl
theorem eL_law_912b0 {ev : xV} {v0 v1 v2 v3 v4 v5 v6 : Option Value} {h : xH} : exF ev cL_law 912 ([v0, v1, v2, v3, v4, v5, v6], []) [.int (nI 0)] h = some (.inl (some (.int (nI 0))), h) := exF_r (i := (i_zret)) rfl i_zret_0
theorem eL_law_912b1 {ev : xV} {v0 v1 v2 v3 v4 v5 v6 : Option Value} {h : xH} : exF ev cL_law 912 ([v0, v1, v2, v3, v4, v5, v6], []) [.int (nI 1)] h = some (.inl (some (.int (nI 1))), h) := exF_r (i := (i_zret)) rfl i_zret_1
theorem eL_law_912b {ev : xV} {v0 v1 v2 v3 v4 v5 v6 : Option Value} {b : Bool} {h : xH} : exF ev cL_law 912 ([v0, v1, v2, v3, v4, v5, v6], []) [.int (bI b)] h = some (.inl (some (.int (bI b))), h) := exF_r (i := (i_zret)) rfl (i_zret_b b)
theorem eL_law_913 {ev : xV} {v0 v2 v3 v4 v5 v6 : Option Value} {x : Nat} {st : List Value} {h : xH} : exF ev cL_law 913 ([v0, some (.ref x), v2, v3, v4, v5, v6], []) st h = exF ev cL_law 914 ([v0, some (.ref x), v2, v3, v4, v5, v6], []) (.ref x :: st) h := exF_j (i := (i_aload 1 914)) rfl rfl
theorem eL_law_914 {ev : xV} {v1 v2 v3 v4 v5 v6 : Option Value} {x : Nat} {st : List Value} {h : xH} : exF ev cL_law 914 ([some (.ref x), v1, v2, v3, v4, v5, v6], []) st h = exF ev cL_law 915 ([some (.ref x), v1, v2, v3, v4, v5, v6], []) (.ref x :: st) h := exF_j (i := (i_aload 0 915)) rfl rfl
theorem eL_law_915 {ev : xV} {v0 v1 v2 v3 v5 v6 : Option Value} {x : Int32} {st : List Value} {h : xH} : exF ev cL_law 915 ([v0, v1, v2, v3, some (.int x), v5, v6], []) st h = exF ev cL_law 917 ([v0, v1, v2, v3, some (.int x), v5, v6], []) (.int x :: st) h := exF_j (i := (i_iload 4 917)) rfl rfl
theorem eL_law_917 {ev : xV} {v0 v1 v2 v3 v4 v5 v6 : Option Value} {st : List Value} {h : xH} : exF ev cL_law 917 ([v0, v1, v2, v3, v4, v5, v6], []) st h = exF ev cL_law 918 ([v0, v1, v2, v3, v4, v5, v6], []) (.int (nI 1) :: st) h := exF_j (i := (i_const (.int (nI 1)) 918)) rfl rfl
theorem eL_law_918 {ev : xV} {v0 v1 v2 v3 v4 v5 v6 : Option Value} {x y : Int32} {st : List Value} {h : xH} : exF ev cL_law 918 ([v0, v1, v2, v3, v4, v5, v6], []) (.int y :: .int x :: st) h = exF ev cL_law 919 ([v0, v1, v2, v3, v4, v5, v6], []) (.int (x + y) :: st) h := exF_j (i := (i_ii (fun x y => x + y) 919)) rfl rfl
theorem eL_law_919 {ev : xV} {v0 v1 v2 v3 v4 v5 v6 : Option Value} {i : Int32} {a : Nat} {st : List Value} {h : xH} : exF ev cL_law 919 ([v0, v1, v2, v3, v4, v5, v6], []) (.int i :: .ref a :: st) h = xO (xai h 0 a i) (fun v => exF ev cL_law 920 ([v0, v1, v2, v3, v4, v5, v6], []) (.int v :: st) h) := exF_o (i := (i_ai 0 920)) rfl rfl
theorem eL_law_920 {ev : xV} {v1 v2 v3 v4 v5 v6 : Option Value} {x : Nat} {st : List Value} {h : xH} : exF ev cL_law 920 ([some (.ref x), v1, v2, v3, v4, v5, v6], []) st h = exF ev cL_law 921 ([some (.ref x), v1, v2, v3, v4, v5, v6], []) (.ref x :: st) h := exF_j (i := (i_aload 0 921)) rfl rfl
theorem eL_law_921 {ev : xV} {v0 v1 v2 v3 v5 v6 : Option Value} {x : Int32} {st : List Value} {h : xH} : exF ev cL_law 921 ([v0, v1, v2, v3, some (.int x), v5, v6], []) st h = exF ev cL_law 923 ([v0, v1, v2, v3, some (.int x), v5, v6], []) (.int x :: st) h := exF_j (i := (i_iload 4 923)) rfl rfl
theorem eL_law_923 {ev : xV} {v0 v1 v2 v3 v4 v5 v6 : Option Value} {st : List Value} {h : xH} : exF ev cL_law 923 ([v0, v1, v2, v3, v4, v5, v6], []) st h = exF ev cL_law 924 ([v0, v1, v2, v3, v4, v5, v6], []) (.int (nI 2) :: st) h := exF_j (i := (i_const (.int (nI 2)) 924)) rfl rfl
theorem eL_law_924 {ev : xV} {v0 v1 v2 v3 v4 v5 v6 : Option Value} {x y : Int32} {st : List Value} {h : xH} : exF ev cL_law 924 ([v0, v1, v2, v3, v4, v5, v6], []) (.int y :: .int x :: st) h = exF ev cL_law 925 ([v0, v1, v2, v3, v4, v5, v6], []) (.int (x + y) :: st) h := exF_j (i := (i_ii (fun x y => x + y) 925)) rfl rfl
theorem eL_law_925 {ev : xV} {v0 v1 v2 v3 v4 v5 v6 : Option Value} {i : Int32} {a : Nat} {st : List Value} {h : xH} : exF ev cL_law 925 ([v0, v1, v2, v3, v4, v5, v6], []) (.int i :: .ref a :: st) h = xO (xai h 0 a i) (fun v => exF ev cL_law 926 ([v0, v1, v2, v3, v4, v5, v6], []) (.int v :: st) h) := exF_o (i := (i_ai 0 926)) rfl rfl
theorem eL_law_926 {ev : xV} {v0 v1 v2 v3 v4 v5 v6 : Option Value} {a0 : Value} {a1 : Value} {a : Nat} {h : xH} : exF ev cL_law 926 ([v0, v1, v2, v3, v4, v5, v6], []) [a1, a0, .ref a] h = xO (xck h a 0) (fun _ => xB (ev 141 [.ref a, a0, a1] h) (fun v h => exF ev cL_law 929 ([v0, v1, v2, v3, v4, v5, v6], []) [v] h)) := exF_cd (i := (i_cv 0 141 2 929)) rfl rfl
theorem eL_law_929 {ev : xV} {v0 v1 v3 v4 v5 v6 : Option Value} {x : Nat} {st : List Value} {h : xH} : exF ev cL_law 929 ([v0, v1, some (.ref x), v3, v4, v5, v6], []) st h = exF ev cL_law 930 ([v0, v1, some (.ref x), v3, v4, v5, v6], []) (.ref x :: st) h := exF_j (i := (i_aload 2 930)) rfl rfl
theorem eL_law_930 {ev : xV} {v1 v2 v3 v4 v5 v6 : Option Value} {x : Nat} {st : List Value} {h : xH} : exF ev cL_law 930 ([some (.ref x), v1, v2, v3, v4, v5, v6], []) st h = exF ev cL_law 931 ([some (.ref x), v1, v2, v3, v4, v5, v6], []) (.ref x :: st) h := exF_j (i := (i_aload 0 931)) rfl rfl
theorem eL_law_931 {ev : xV} {v0 v1 v2 v3 v5 v6 : Option Value} {x : Int32} {st : List Value} {h : xH} : exF ev cL_law 931 ([v0, v1, v2, v3, some (.int x), v5, v6], []) st h = exF ev cL_law 933 ([v0, v1, v2, v3, some (.int x), v5, v6], []) (.int x :: st) h := exF_j (i := (i_iload 4 933)) rfl rfl
theorem eL_law_933 {ev : xV} {v0 v1 v2 v3 v4 v5 v6 : Option Value} {st : List Value} {h : xH} : exF ev cL_law 933 ([v0, v1, v2, v3, v4, v5, v6], []) st h = exF ev cL_law 934 ([v0, v1, v2, v3, v4, v5, v6], []) (.int (nI 1) :: st) h := exF_j (i := (i_const (.int (nI 1)) 934)) rfl rfl
theorem eL_law_934 {ev : xV} {v0 v1 v2 v3 v4 v5 v6 : Option Value} {x y : Int32} {st : List Value} {h : xH} : exF ev cL_law 934 ([v0, v1, v2, v3, v4, v5, v6], []) (.int y :: .int x :: st) h = exF ev cL_law 935 ([v0, v1, v2, v3, v4, v5, v6], []) (.int (x + y) :: st) h := exF_j (i := (i_ii (fun x y => x + y) 935)) rfl rfl
theorem eL_law_935 {ev : xV} {v0 v1 v2 v3 v4 v5 v6 : Option Value} {i : Int32} {a : Nat} {st : List Value} {h : xH} : exF ev cL_law 935 ([v0, v1, v2, v3, v4, v5, v6], []) (.int i :: .ref a :: st) h = xO (xai h 0 a i) (fun v => exF ev cL_law 936 ([v0, v1, v2, v3, v4, v5, v6], []) (.int v :: st) h) := exF_o (i := (i_ai 0 936)) rfl rfl
theorem eL_law_936 {ev : xV} {v1 v2 v3 v4 v5 v6 : Option Value} {x : Nat} {st : List Value} {h : xH} : exF ev cL_law 936 ([some (.ref x), v1, v2, v3, v4, v5, v6], []) st h = exF ev cL_law 937 ([some (.ref x), v1, v2, v3, v4, v5, v6], []) (.ref x :: st) h := exF_j (i := (i_aload 0 937)) rfl rfl
theorem eL_law_937 {ev : xV} {v0 v1 v2 v3 v5 v6 : Option Value} {x : Int32} {st : List Value} {h : xH} : exF ev cL_law 937 ([v0, v1, v2, v3, some (.int x), v5, v6], []) st h = exF ev cL_law 939 ([v0, v1, v2, v3, some (.int x), v5, v6], []) (.int x :: st) h := exF_j (i := (i_iload 4 939)) rfl rfl
theorem eL_law_939 {ev : xV} {v0 v1 v2 v3 v4 v5 v6 : Option Value} {st : List Value} {h : xH} : exF ev cL_law 939 ([v0, v1, v2, v3, v4, v5, v6], []) st h = exF ev cL_law 940 ([v0, v1, v2, v3, v4, v5, v6], []) (.int (nI 2) :: st) h := exF_j (i := (i_const (.int (nI 2)) 940)) rfl rfl
theorem eL_law_940 {ev : xV} {v0 v1 v2 v3 v4 v5 v6 : Option Value} {x y : Int32} {st : List Value} {h : xH} : exF ev cL_law 940 ([v0, v1, v2, v3, v4, v5, v6], []) (.int y :: .int x :: st) h = exF ev cL_law 941 ([v0, v1, v2, v3, v4, v5, v6], []) (.int (x + y) :: st) h := exF_j (i := (i_ii (fun x y => x + y) 941)) rfl rfl
theorem eL_law_941 {ev : xV} {v0 v1 v2 v3 v4 v5 v6 : Option Value} {i : Int32} {a : Nat} {st : List Value} {h : xH} : exF ev cL_law 941 ([v0, v1, v2, v3, v4, v5, v6], []) (.int i :: .ref a :: st) h = xO (xai h 0 a i) (fun v => exF ev cL_law 942 ([v0, v1, v2, v3, v4, v5, v6], []) (.int v :: st) h) := exF_o (i := (i_ai 0 942)) rfl rfl
theorem eL_law_942 {ev : xV} {v0 v1 v2 v3 v4 v5 v6 : Option Value} {a0 : Value} {a1 : Value} {r0 : Value} {a : Nat} {h : xH} : exF ev cL_law 942 ([v0, v1, v2, v3, v4, v5, v6], []) [a1, a0, .ref a, r0] h = xO (xck h a 4) (fun _ => xB (ev 333 [.ref a, a0, a1] h) (fun v h => exF ev cL_law 945 ([v0, v1, v2, v3, v4, v5, v6], []) [v, r0] h)) := exF_cd (i := (i_cv 4 333 2 945)) rfl rfl
theorem eL_law_945 {ev : xV} {v0 v1 v2 v3 v4 v5 v6 : Option Value} {x y : Int32} {st : List Value} {h : xH} : exF ev cL_law 945 ([v0, v1, v2, v3, v4, v5, v6], []) (.int y :: .int x :: st) h = if x = y then exF ev cL_law 1512 ([v0, v1, v2, v3, v4, v5, v6], []) st h else exF ev cL_law 948 ([v0, v1, v2, v3, v4, v5, v6], []) st h := exF_b (i := (i_if2 (fun x y => x = y) 1512 948)) rfl rfl
theorem eL_law_948 {ev : xV} {v0 v1 v2 v3 v4 v5 v6 : Option Value} {st : List Value} {h : xH} : exF ev cL_law 948 ([v0, v1, v2, v3, v4, v5, v6], []) st h = exF ev cL_law 949 ([v0, v1, v2, v3, v4, v5, v6], []) (.int (nI 0) :: st) h := exF_j (i := (i_const (.int (nI 0)) 949)) rfl rfl
theorem eL_law_949 {ev : xV} {v0 v1 v2 v3 v4 v5 v6 : Option Value} {x : Int32} {h : xH} : exF ev cL_law 949 ([v0, v1, v2, v3, v4, v5, v6], []) [.int x] h = if x = nI 0 ∨ x = nI 1 then some (.inl (some (.int x)), h) else none := exF_z (i := (i_zret)) rfl rfl
theorem eL_law_949b0 {ev : xV} {v0 v1 v2 v3 v4 v5 v6 : Option Value} {h : xH} : exF ev cL_law 949 ([v0, v1, v2, v3, v4, v5, v6], []) [.int (nI 0)] h = some (.inl (some (.int (nI 0))), h) := exF_r (i := (i_zret)) rfl i_zret_0
theorem eL_law_949b1 {ev : xV} {v0 v1 v2 v3 v4 v5 v6 : Option Value} {h : xH} : exF ev cL_law 949 ([v0, v1, v2, v3, v4, v5, v6], []) [.int (nI 1)] h = some (.inl (some (.int (nI 1))), h) := exF_r (i := (i_zret)) rfl i_zret_1
theorem eL_law_949b {ev : xV} {v0 v1 v2 v3 v4 v5 v6 : Option Value} {b : Bool} {h : xH} : exF ev cL_law 949 ([v0, v1, v2, v3, v4, v5, v6], []) [.int (bI b)] h = some (.inl (some (.int (bI b))), h) := exF_r (i := (i_zret)) rfl (i_zret_b b)
theorem eL_law_950 {ev : xV} {v0 v2 v3 v4 v5 v6 : Option Value} {x : Nat} {st : List Value} {h : xH} : exF ev cL_law 950 ([v0, some (.ref x), v2, v3, v4, v5, v6], []) st h = exF ev cL_law 951 ([v0, some (.ref x), v2, v3, v4, v5, v6], []) (.ref x :: st) h := exF_j (i := (i_aload 1 951)) rfl rfl
theorem eL_law_951 {ev : xV} {v1 v2 v3 v4 v5 v6 : Option Value} {x : Nat} {st : List Value} {h : xH} : exF ev cL_law 951 ([some (.ref x), v1, v2, v3, v4, v5, v6], []) st h = exF ev cL_law 952 ([some (.ref x), v1, v2, v3, v4, v5, v6], []) (.ref x :: st) h := exF_j (i := (i_aload 0 952)) rfl rfl
theorem eL_law_952 {ev : xV} {v0 v1 v2 v3 v5 v6 : Option Value} {x : Int32} {st : List Value} {h : xH} : exF ev cL_law 952 ([v0, v1, v2, v3, some (.int x), v5, v6], []) st h = exF ev cL_law 954 ([v0, v1, v2, v3, some (.int x), v5, v6], []) (.int x :: st) h := exF_j (i := (i_iload 4 954)) rfl rfl
theorem eL_law_954 {ev : xV} {v0 v1 v2 v3 v4 v5 v6 : Option Value} {st : List Value} {h : xH} : exF ev cL_law 954 ([v0, v1, v2, v3, v4, v5, v6], []) st h = exF ev cL_law 955 ([v0, v1, v2, v3, v4, v5, v6], []) (.int (nI 1) :: st) h := exF_j (i := (i_const (.int (nI 1)) 955)) rfl rfl
theorem eL_law_955 {ev : xV} {v0 v1 v2 v3 v4 v5 v6 : Option Value} {x y : Int32} {st : List Value} {h : xH} : exF ev cL_law 955 ([v0, v1, v2, v3, v4, v5, v6], []) (.int y :: .int x :: st) h = exF ev cL_law 956 ([v0, v1, v2, v3, v4, v5, v6], []) (.int (x + y) :: st) h := exF_j (i := (i_ii (fun x y => x + y) 956)) rfl rfl
theorem eL_law_956 {ev : xV} {v0 v1 v2 v3 v4 v5 v6 : Option Value} {i : Int32} {a : Nat} {st : List Value} {h : xH} : exF ev cL_law 956 ([v0, v1, v2, v3, v4, v5, v6], []) (.int i :: .ref a :: st) h = xO (xai h 0 a i) (fun v => exF ev cL_law 957 ([v0, v1, v2, v3, v4, v5, v6], []) (.int v :: st) h) := exF_o (i := (i_ai 0 957)) rfl rfl
theorem eL_law_957 {ev : xV} {v1 v2 v3 v4 v5 v6 : Option Value} {x : Nat} {st : List Value} {h : xH} : exF ev cL_law 957 ([some (.ref x), v1, v2, v3, v4, v5, v6], []) st h = exF ev cL_law 958 ([some (.ref x), v1, v2, v3, v4, v5, v6], []) (.ref x :: st) h := exF_j (i := (i_aload 0 958)) rfl rfl
theorem eL_law_958 {ev : xV} {v0 v1 v2 v3 v5 v6 : Option Value} {x : Int32} {st : List Value} {h : xH} : exF ev cL_law 958 ([v0, v1, v2, v3, some (.int x), v5, v6], []) st h = exF ev cL_law 960 ([v0, v1, v2, v3, some (.int x), v5, v6], []) (.int x :: st) h := exF_j (i := (i_iload 4 960)) rfl rfl
theorem eL_law_960 {ev : xV} {v0 v1 v2 v3 v4 v5 v6 : Option Value} {st : List Value} {h : xH} : exF ev cL_law 960 ([v0, v1, v2, v3, v4, v5, v6], []) st h = exF ev cL_law 961 ([v0, v1, v2, v3, v4, v5, v6], []) (.int (nI 2) :: st) h := exF_j (i := (i_const (.int (nI 2)) 961)) rfl rfl
theorem eL_law_961 {ev : xV} {v0 v1 v2 v3 v4 v5 v6 : Option Value} {x y : Int32} {st : List Value} {h : xH} : exF ev cL_law 961 ([v0, v1, v2, v3, v4, v5, v6], []) (.int y :: .int x :: st) h = exF ev cL_law 962 ([v0, v1, v2, v3, v4, v5, v6], []) (.int (x + y) :: st) h := exF_j (i := (i_ii (fun x y => x + y) 962)) rfl rfl
theorem eL_law_962 {ev : xV} {v0 v1 v2 v3 v4 v5 v6 : Option Value} {i : Int32} {a : Nat} {st : List Value} {h : xH} : exF ev cL_law 962 ([v0, v1, v2, v3, v4, v5, v6], []) (.int i :: .ref a :: st) h = xO (xai h 0 a i) (fun v => exF ev cL_law 963 ([v0, v1, v2, v3, v4, v5, v6], []) (.int v :: st) h) := exF_o (i := (i_ai 0 963)) rfl rfl
theorem eL_law_963 {ev : xV} {v0 v1 v2 v3 v4 v5 v6 : Option Value} {a0 : Value} {a1 : Value} {a : Nat} {h : xH} : exF ev cL_law 963 ([v0, v1, v2, v3, v4, v5, v6], []) [a1, a0, .ref a] h = xO (xck h a 0) (fun _ => xB (ev 142 [.ref a, a0, a1] h) (fun v h => exF ev cL_law 966 ([v0, v1, v2, v3, v4, v5, v6], []) [v] h)) := exF_cd (i := (i_cv 0 142 2 966)) rfl rfl
theorem eL_law_966 {ev : xV} {v0 v1 v3 v4 v5 v6 : Option Value} {x : Nat} {st : List Value} {h : xH} : exF ev cL_law 966 ([v0, v1, some (.ref x), v3, v4, v5, v6], []) st h = exF ev cL_law 967 ([v0, v1, some (.ref x), v3, v4, v5, v6], []) (.ref x :: st) h := exF_j (i := (i_aload 2 967)) rfl rfl
theorem eL_law_967 {ev : xV} {v1 v2 v3 v4 v5 v6 : Option Value} {x : Nat} {st : List Value} {h : xH} : exF ev cL_law 967 ([some (.ref x), v1, v2, v3, v4, v5, v6], []) st h = exF ev cL_law 968 ([some (.ref x), v1, v2, v3, v4, v5, v6], []) (.ref x :: st) h := exF_j (i := (i_aload 0 968)) rfl rfl
theorem eL_law_968 {ev : xV} {v0 v1 v2 v3 v5 v6 : Option Value} {x : Int32} {st : List Value} {h : xH} : exF ev cL_law 968 ([v0, v1, v2, v3, some (.int x), v5, v6], []) st h = exF ev cL_law 970 ([v0, v1, v2, v3, some (.int x), v5, v6], []) (.int x :: st) h := exF_j (i := (i_iload 4 970)) rfl rfl
theorem eL_law_970 {ev : xV} {v0 v1 v2 v3 v4 v5 v6 : Option Value} {st : List Value} {h : xH} : exF ev cL_law 970 ([v0, v1, v2, v3, v4, v5, v6], []) st h = exF ev cL_law 971 ([v0, v1, v2, v3, v4, v5, v6], []) (.int (nI 1) :: st) h := exF_j (i := (i_const (.int (nI 1)) 971)) rfl rfl
theorem eL_law_971 {ev : xV} {v0 v1 v2 v3 v4 v5 v6 : Option Value} {x y : Int32} {st : List Value} {h : xH} : exF ev cL_law 971 ([v0, v1, v2, v3, v4, v5, v6], []) (.int y :: .int x :: st) h = exF ev cL_law 972 ([v0, v1, v2, v3, v4, v5, v6], []) (.int (x + y) :: st) h := exF_j (i := (i_ii (fun x y => x + y) 972)) rfl rfl
theorem eL_law_972 {ev : xV} {v0 v1 v2 v3 v4 v5 v6 : Option Value} {i : Int32} {a : Nat} {st : List Value} {h : xH} : exF ev cL_law 972 ([v0, v1, v2, v3, v4, v5, v6], []) (.int i :: .ref a :: st) h = xO (xai h 0 a i) (fun v => exF ev cL_law 973 ([v0, v1, v2, v3, v4, v5, v6], []) (.int v :: st) h) := exF_o (i := (i_ai 0 973)) rfl rfl
theorem eL_law_973 {ev : xV} {v1 v2 v3 v4 v5 v6 : Option Value} {x : Nat} {st : List Value} {h : xH} : exF ev cL_law 973 ([some (.ref x), v1, v2, v3, v4, v5, v6], []) st h = exF ev cL_law 974 ([some (.ref x), v1, v2, v3, v4, v5, v6], []) (.ref x :: st) h := exF_j (i := (i_aload 0 974)) rfl rfl
theorem eL_law_974 {ev : xV} {v0 v1 v2 v3 v5 v6 : Option Value} {x : Int32} {st : List Value} {h : xH} : exF ev cL_law 974 ([v0, v1, v2, v3, some (.int x), v5, v6], []) st h = exF ev cL_law 976 ([v0, v1, v2, v3, some (.int x), v5, v6], []) (.int x :: st) h := exF_j (i := (i_iload 4 976)) rfl rfl
theorem eL_law_976 {ev : xV} {v0 v1 v2 v3 v4 v5 v6 : Option Value} {st : List Value} {h : xH} : exF ev cL_law 976 ([v0, v1, v2, v3, v4, v5, v6], []) st h = exF ev cL_law 977 ([v0, v1, v2, v3, v4, v5, v6], []) (.int (nI 2) :: st) h := exF_j (i := (i_const (.int (nI 2)) 977)) rfl rfl
theorem eL_law_977 {ev : xV} {v0 v1 v2 v3 v4 v5 v6 : Option Value} {x y : Int32} {st : List Value} {h : xH} : exF ev cL_law 977 ([v0, v1, v2, v3, v4, v5, v6], []) (.int y :: .int x :: st) h = exF ev cL_law 978 ([v0, v1, v2, v3, v4, v5, v6], []) (.int (x + y) :: st) h := exF_j (i := (i_ii (fun x y => x + y) 978)) rfl rfl
theorem eL_law_978 {ev : xV} {v0 v1 v2 v3 v4 v5 v6 : Option Value} {i : Int32} {a : Nat} {st : List Value} {h : xH} : exF ev cL_law 978 ([v0, v1, v2, v3, v4, v5, v6], []) (.int i :: .ref a :: st) h = xO (xai h 0 a i) (fun v => exF ev cL_law 979 ([v0, v1, v2, v3, v4, v5, v6], []) (.int v :: st) h) := exF_o (i := (i_ai 0 979)) rfl rfl
theorem eL_law_979 {ev : xV} {v0 v1 v2 v3 v4 v5 v6 : Option Value} {a0 : Value} {a1 : Value} {r0 : Value} {a : Nat} {h : xH} : exF ev cL_law 979 ([v0, v1, v2, v3, v4, v5, v6], []) [a1, a0, .ref a, r0] h = xO (xck h a 4) (fun _ => xB (ev 348 [.ref a, a0, a1] h) (fun v h => exF ev cL_law 982 ([v0, v1, v2, v3, v4, v5, v6], []) [v, r0] h)) := exF_cd (i := (i_cv 4 348 2 982)) rfl rfl
theorem eL_law_982 {ev : xV} {v0 v1 v2 v3 v4 v5 v6 : Option Value} {x y : Int32} {st : List Value} {h : xH} : exF ev cL_law 982 ([v0, v1, v2, v3, v4, v5, v6], []) (.int y :: .int x :: st) h = if x = y then exF ev cL_law 1512 ([v0, v1, v2, v3, v4, v5, v6], []) st h else exF ev cL_law 985 ([v0, v1, v2, v3, v4, v5, v6], []) st h := exF_b (i := (i_if2 (fun x y => x = y) 1512 985)) rfl rfl
theorem eL_law_985 {ev : xV} {v0 v1 v2 v3 v4 v5 v6 : Option Value} {st : List Value} {h : xH} : exF ev cL_law 985 ([v0, v1, v2, v3, v4, v5, v6], []) st h = exF ev cL_law 986 ([v0, v1, v2, v3, v4, v5, v6], []) (.int (nI 0) :: st) h := exF_j (i := (i_const (.int (nI 0)) 986)) rfl rfl
theorem eL_law_986 {ev : xV} {v0 v1 v2 v3 v4 v5 v6 : Option Value} {x : Int32} {h : xH} : exF ev cL_law 986 ([v0, v1, v2, v3, v4, v5, v6], []) [.int x] h = if x = nI 0 ∨ x = nI 1 then some (.inl (some (.int x)), h) else none := exF_z (i := (i_zret)) rfl rfl
theorem eL_law_986b0 {ev : xV} {v0 v1 v2 v3 v4 v5 v6 : Option Value} {h : xH} : exF ev cL_law 986 ([v0, v1, v2, v3, v4, v5, v6], []) [.int (nI 0)] h = some (.inl (some (.int (nI 0))), h) := exF_r (i := (i_zret)) rfl i_zret_0
theorem eL_law_986b1 {ev : xV} {v0 v1 v2 v3 v4 v5 v6 : Option Value} {h : xH} : exF ev cL_law 986 ([v0, v1, v2, v3, v4, v5, v6], []) [.int (nI 1)] h = some (.inl (some (.int (nI 1))), h) := exF_r (i := (i_zret)) rfl i_zret_1
theorem eL_law_986b {ev : xV} {v0 v1 v2 v3 v4 v5 v6 : Option Value} {b : Bool} {h : xH} : exF ev cL_law 986 ([v0, v1, v2, v3, v4, v5, v6], []) [.int (bI b)] h = some (.inl (some (.int (bI b))), h) := exF_r (i := (i_zret)) rfl (i_zret_b b)
theorem eL_law_987 {ev : xV} {v0 v2 v3 v4 v5 v6 : Option Value} {x : Nat} {st : List Value} {h : xH} : exF ev cL_law 987 ([v0, some (.ref x), v2, v3, v4, v5, v6], []) st h = exF ev cL_law 988 ([v0, some (.ref x), v2, v3, v4, v5, v6], []) (.ref x :: st) h := exF_j (i := (i_aload 1 988)) rfl rfl
theorem eL_law_988 {ev : xV} {v1 v2 v3 v4 v5 v6 : Option Value} {x : Nat} {st : List Value} {h : xH} : exF ev cL_law 988 ([some (.ref x), v1, v2, v3, v4, v5, v6], []) st h = exF ev cL_law 989 ([some (.ref x), v1, v2, v3, v4, v5, v6], []) (.ref x :: st) h := exF_j (i := (i_aload 0 989)) rfl rfl
theorem eL_law_989 {ev : xV} {v0 v1 v2 v3 v5 v6 : Option Value} {x : Int32} {st : List Value} {h : xH} : exF ev cL_law 989 ([v0, v1, v2, v3, some (.int x), v5, v6], []) st h = exF ev cL_law 991 ([v0, v1, v2, v3, some (.int x), v5, v6], []) (.int x :: st) h := exF_j (i := (i_iload 4 991)) rfl rfl
theorem eL_law_991 {ev : xV} {v0 v1 v2 v3 v4 v5 v6 : Option Value} {st : List Value} {h : xH} : exF ev cL_law 991 ([v0, v1, v2, v3, v4, v5, v6], []) st h = exF ev cL_law 992 ([v0, v1, v2, v3, v4, v5, v6], []) (.int (nI 1) :: st) h := exF_j (i := (i_const (.int (nI 1)) 992)) rfl rfl
theorem eL_law_992 {ev : xV} {v0 v1 v2 v3 v4 v5 v6 : Option Value} {x y : Int32} {st : List Value} {h : xH} : exF ev cL_law 992 ([v0, v1, v2, v3, v4, v5, v6], []) (.int y :: .int x :: st) h = exF ev cL_law 993 ([v0, v1, v2, v3, v4, v5, v6], []) (.int (x + y) :: st) h := exF_j (i := (i_ii (fun x y => x + y) 993)) rfl rfl
theorem eL_law_993 {ev : xV} {v0 v1 v2 v3 v4 v5 v6 : Option Value} {i : Int32} {a : Nat} {st : List Value} {h : xH} : exF ev cL_law 993 ([v0, v1, v2, v3, v4, v5, v6], []) (.int i :: .ref a :: st) h = xO (xai h 0 a i) (fun v => exF ev cL_law 994 ([v0, v1, v2, v3, v4, v5, v6], []) (.int v :: st) h) := exF_o (i := (i_ai 0 994)) rfl rfl
theorem eL_law_994 {ev : xV} {v1 v2 v3 v4 v5 v6 : Option Value} {x : Nat} {st : List Value} {h : xH} : exF ev cL_law 994 ([some (.ref x), v1, v2, v3, v4, v5, v6], []) st h = exF ev cL_law 995 ([some (.ref x), v1, v2, v3, v4, v5, v6], []) (.ref x :: st) h := exF_j (i := (i_aload 0 995)) rfl rfl
theorem eL_law_995 {ev : xV} {v0 v1 v2 v3 v5 v6 : Option Value} {x : Int32} {st : List Value} {h : xH} : exF ev cL_law 995 ([v0, v1, v2, v3, some (.int x), v5, v6], []) st h = exF ev cL_law 997 ([v0, v1, v2, v3, some (.int x), v5, v6], []) (.int x :: st) h := exF_j (i := (i_iload 4 997)) rfl rfl
theorem eL_law_997 {ev : xV} {v0 v1 v2 v3 v4 v5 v6 : Option Value} {st : List Value} {h : xH} : exF ev cL_law 997 ([v0, v1, v2, v3, v4, v5, v6], []) st h = exF ev cL_law 998 ([v0, v1, v2, v3, v4, v5, v6], []) (.int (nI 2) :: st) h := exF_j (i := (i_const (.int (nI 2)) 998)) rfl rfl
theorem eL_law_998 {ev : xV} {v0 v1 v2 v3 v4 v5 v6 : Option Value} {x y : Int32} {st : List Value} {h : xH} : exF ev cL_law 998 ([v0, v1, v2, v3, v4, v5, v6], []) (.int y :: .int x :: st) h = exF ev cL_law 999 ([v0, v1, v2, v3, v4, v5, v6], []) (.int (x + y) :: st) h := exF_j (i := (i_ii (fun x y => x + y) 999)) rfl rfl
theorem eL_law_999 {ev : xV} {v0 v1 v2 v3 v4 v5 v6 : Option Value} {i : Int32} {a : Nat} {st : List Value} {h : xH} : exF ev cL_law 999 ([v0, v1, v2, v3, v4, v5, v6], []) (.int i :: .ref a :: st) h = xO (xai h 0 a i) (fun v => exF ev cL_law 1000 ([v0, v1, v2, v3, v4, v5, v6], []) (.int v :: st) h) := exF_o (i := (i_ai 0 1000)) rfl rfl
theorem eL_law_1000 {ev : xV} {v1 v2 v3 v4 v5 v6 : Option Value} {x : Nat} {st : List Value} {h : xH} : exF ev cL_law 1000 ([some (.ref x), v1, v2, v3, v4, v5, v6], []) st h = exF ev cL_law 1001 ([some (.ref x), v1, v2, v3, v4, v5, v6], []) (.ref x :: st) h := exF_j (i := (i_aload 0 1001)) rfl rfl
theorem eL_law_1001 {ev : xV} {v0 v1 v2 v3 v5 v6 : Option Value} {x : Int32} {st : List Value} {h : xH} : exF ev cL_law 1001 ([v0, v1, v2, v3, some (.int x), v5, v6], []) st h = exF ev cL_law 1003 ([v0, v1, v2, v3, some (.int x), v5, v6], []) (.int x :: st) h := exF_j (i := (i_iload 4 1003)) rfl rfl
theorem eL_law_1003 {ev : xV} {v0 v1 v2 v3 v4 v5 v6 : Option Value} {st : List Value} {h : xH} : exF ev cL_law 1003 ([v0, v1, v2, v3, v4, v5, v6], []) st h = exF ev cL_law 1004 ([v0, v1, v2, v3, v4, v5, v6], []) (.int (nI 3) :: st) h := exF_j (i := (i_const (.int (nI 3)) 1004)) rfl rfl
theorem eL_law_1004 {ev : xV} {v0 v1 v2 v3 v4 v5 v6 : Option Value} {x y : Int32} {st : List Value} {h : xH} : exF ev cL_law 1004 ([v0, v1, v2, v3, v4, v5, v6], []) (.int y :: .int x :: st) h = exF ev cL_law 1005 ([v0, v1, v2, v3, v4, v5, v6], []) (.int (x + y) :: st) h := exF_j (i := (i_ii (fun x y => x + y) 1005)) rfl rfl
theorem eL_law_1005 {ev : xV} {v0 v1 v2 v3 v4 v5 v6 : Option Value} {i : Int32} {a : Nat} {st : List Value} {h : xH} : exF ev cL_law 1005 ([v0, v1, v2, v3, v4, v5, v6], []) (.int i :: .ref a :: st) h = xO (xai h 0 a i) (fun v => exF ev cL_law 1006 ([v0, v1, v2, v3, v4, v5, v6], []) (.int v :: st) h) := exF_o (i := (i_ai 0 1006)) rfl rfl
theorem eL_law_1006 {ev : xV} {v0 v1 v2 v3 v4 v5 v6 : Option Value} {x : Int32} {st : List Value} {h : xH} : exF ev cL_law 1006 ([v0, v1, v2, v3, v4, v5, v6], []) (.int x :: st) h = if x = 0 then exF ev cL_law 1013 ([v0, v1, v2, v3, v4, v5, v6], []) st h else exF ev cL_law 1009 ([v0, v1, v2, v3, v4, v5, v6], []) st h := exF_b (i := (i_if1 (fun x => x = 0) 1013 1009)) rfl rfl
theorem eL_law_1009 {ev : xV} {v0 v1 v2 v3 v4 v5 v6 : Option Value} {st : List Value} {h : xH} : exF ev cL_law 1009 ([v0, v1, v2, v3, v4, v5, v6], []) st h = exF ev cL_law 1010 ([v0, v1, v2, v3, v4, v5, v6], []) (.int (nI 1) :: st) h := exF_j (i := (i_const (.int (nI 1)) 1010)) rfl rfl
theorem eL_law_1010 {ev : xV} {v0 v1 v2 v3 v4 v5 v6 : Option Value} {st : List Value} {h : xH} : exF ev cL_law 1010 ([v0, v1, v2, v3, v4, v5, v6], []) st h = exF ev cL_law 1014 ([v0, v1, v2, v3, v4, v5, v6], []) st h := exF_j (i := (i_goto 1014)) rfl rfl
theorem eL_law_1013 {ev : xV} {v0 v1 v2 v3 v4 v5 v6 : Option Value} {st : List Value} {h : xH} : exF ev cL_law 1013 ([v0, v1, v2, v3, v4, v5, v6], []) st h = exF ev cL_law 1014 ([v0, v1, v2, v3, v4, v5, v6], []) (.int (nI 0) :: st) h := exF_j (i := (i_const (.int (nI 0)) 1014)) rfl rfl
theorem eL_law_1014 {ev : xV} {v0 v1 v2 v3 v4 v5 v6 : Option Value} {a0 : Value} {a1 : Value} {a2 : Value} {a : Nat} {h : xH} : exF ev cL_law 1014 ([v0, v1, v2, v3, v4, v5, v6], []) [a2, a1, a0, .ref a] h = xO (xck h a 0) (fun _ => xB (ev 145 [.ref a, a0, a1, a2] h) (fun v h => exF ev cL_law 1017 ([v0, v1, v2, v3, v4, v5, v6], []) [v] h)) := exF_cd (i := (i_cv 0 145 3 1017)) rfl rfl
theorem eL_law_1017 {ev : xV} {v0 v1 v3 v4 v5 v6 : Option Value} {x : Nat} {st : List Value} {h : xH} : exF ev cL_law 1017 ([v0, v1, some (.ref x), v3, v4, v5, v6], []) st h = exF ev cL_law 1018 ([v0, v1, some (.ref x), v3, v4, v5, v6], []) (.ref x :: st) h := exF_j (i := (i_aload 2 1018)) rfl rfl
theorem eL_law_1018 {ev : xV} {v1 v2 v3 v4 v5 v6 : Option Value} {x : Nat} {st : List Value} {h : xH} : exF ev cL_law 1018 ([some (.ref x), v1, v2, v3, v4, v5, v6], []) st h = exF ev cL_law 1019 ([some (.ref x), v1, v2, v3, v4, v5, v6], []) (.ref x :: st) h := exF_j (i := (i_aload 0 1019)) rfl rfl
theorem eL_law_1019 {ev : xV} {v0 v1 v2 v3 v5 v6 : Option Value} {x : Int32} {st : List Value} {h : xH} : exF ev cL_law 1019 ([v0, v1, v2, v3, some (.int x), v5, v6], []) st h = exF ev cL_law 1021 ([v0, v1, v2, v3, some (.int x), v5, v6], []) (.int x :: st) h := exF_j (i := (i_iload 4 1021)) rfl rfl
theorem eL_law_1021 {ev : xV} {v0 v1 v2 v3 v4 v5 v6 : Option Value} {st : List Value} {h : xH} : exF ev cL_law 1021 ([v0, v1, v2, v3, v4, v5, v6], []) st h = exF ev cL_law 1022 ([v0, v1, v2, v3, v4, v5, v6], []) (.int (nI 1) :: st) h := exF_j (i := (i_const (.int (nI 1)) 1022)) rfl rfl
theorem eL_law_1022 {ev : xV} {v0 v1 v2 v3 v4 v5 v6 : Option Value} {x y : Int32} {st : List Value} {h : xH} : exF ev cL_law 1022 ([v0, v1, v2, v3, v4, v5, v6], []) (.int y :: .int x :: st) h = exF ev cL_law 1023 ([v0, v1, v2, v3, v4, v5, v6], []) (.int (x + y) :: st) h := exF_j (i := (i_ii (fun x y => x + y) 1023)) rfl rfl
theorem eL_law_1023 {ev : xV} {v0 v1 v2 v3 v4 v5 v6 : Option Value} {i : Int32} {a : Nat} {st : List Value} {h : xH} : exF ev cL_law 1023 ([v0, v1, v2, v3, v4, v5, v6], []) (.int i :: .ref a :: st) h = xO (xai h 0 a i) (fun v => exF ev cL_law 1024 ([v0, v1, v2, v3, v4, v5, v6], []) (.int v :: st) h) := exF_o (i := (i_ai 0 1024)) rfl rfl
theorem eL_law_1024 {ev : xV} {v1 v2 v3 v4 v5 v6 : Option Value} {x : Nat} {st : List Value} {h : xH} : exF ev cL_law 1024 ([some (.ref x), v1, v2, v3, v4, v5, v6], []) st h = exF ev cL_law 1025 ([some (.ref x), v1, v2, v3, v4, v5, v6], []) (.ref x :: st) h := exF_j (i := (i_aload 0 1025)) rfl rfl
theorem eL_law_1025 {ev : xV} {v0 v1 v2 v3 v5 v6 : Option Value} {x : Int32} {st : List Value} {h : xH} : exF ev cL_law 1025 ([v0, v1, v2, v3, some (.int x), v5, v6], []) st h = exF ev cL_law 1027 ([v0, v1, v2, v3, some (.int x), v5, v6], []) (.int x :: st) h := exF_j (i := (i_iload 4 1027)) rfl rfl
theorem eL_law_1027 {ev : xV} {v0 v1 v2 v3 v4 v5 v6 : Option Value} {st : List Value} {h : xH} : exF ev cL_law 1027 ([v0, v1, v2, v3, v4, v5, v6], []) st h = exF ev cL_law 1028 ([v0, v1, v2, v3, v4, v5, v6], []) (.int (nI 2) :: st) h := exF_j (i := (i_const (.int (nI 2)) 1028)) rfl rfl
theorem eL_law_1028 {ev : xV} {v0 v1 v2 v3 v4 v5 v6 : Option Value} {x y : Int32} {st : List Value} {h : xH} : exF ev cL_law 1028 ([v0, v1, v2, v3, v4, v5, v6], []) (.int y :: .int x :: st) h = exF ev cL_law 1029 ([v0, v1, v2, v3, v4, v5, v6], []) (.int (x + y) :: st) h := exF_j (i := (i_ii (fun x y => x + y) 1029)) rfl rfl
theorem eL_law_1029 {ev : xV} {v0 v1 v2 v3 v4 v5 v6 : Option Value} {i : Int32} {a : Nat} {st : List Value} {h : xH} : exF ev cL_law 1029 ([v0, v1, v2, v3, v4, v5, v6], []) (.int i :: .ref a :: st) h = xO (xai h 0 a i) (fun v => exF ev cL_law 1030 ([v0, v1, v2, v3, v4, v5, v6], []) (.int v :: st) h) := exF_o (i := (i_ai 0 1030)) rfl rfl
theorem eL_law_1030 {ev : xV} {v1 v2 v3 v4 v5 v6 : Option Value} {x : Nat} {st : List Value} {h : xH} : exF ev cL_law 1030 ([some (.ref x), v1, v2, v3, v4, v5, v6], []) st h = exF ev cL_law 1031 ([some (.ref x), v1, v2, v3, v4, v5, v6], []) (.ref x :: st) h := exF_j (i := (i_aload 0 1031)) rfl rfl
theorem eL_law_1031 {ev : xV} {v0 v1 v2 v3 v5 v6 : Option Value} {x : Int32} {st : List Value} {h : xH} : exF ev cL_law 1031 ([v0, v1, v2, v3, some (.int x), v5, v6], []) st h = exF ev cL_law 1033 ([v0, v1, v2, v3, some (.int x), v5, v6], []) (.int x :: st) h := exF_j (i := (i_iload 4 1033)) rfl rfl
theorem eL_law_1033 {ev : xV} {v0 v1 v2 v3 v4 v5 v6 : Option Value} {st : List Value} {h : xH} : exF ev cL_law 1033 ([v0, v1, v2, v3, v4, v5, v6], []) st h = exF ev cL_law 1034 ([v0, v1, v2, v3, v4, v5, v6], []) (.int (nI 3) :: st) h := exF_j (i := (i_const (.int (nI 3)) 1034)) rfl rfl
theorem eL_law_1034 {ev : xV} {v0 v1 v2 v3 v4 v5 v6 : Option Value} {x y : Int32} {st : List Value} {h : xH} : exF ev cL_law 1034 ([v0, v1, v2, v3, v4, v5, v6], []) (.int y :: .int x :: st) h = exF ev cL_law 1035 ([v0, v1, v2, v3, v4, v5, v6], []) (.int (x + y) :: st) h := exF_j (i := (i_ii (fun x y => x + y) 1035)) rfl rfl
theorem eL_law_1035 {ev : xV} {v0 v1 v2 v3 v4 v5 v6 : Option Value} {i : Int32} {a : Nat} {st : List Value} {h : xH} : exF ev cL_law 1035 ([v0, v1, v2, v3, v4, v5, v6], []) (.int i :: .ref a :: st) h = xO (xai h 0 a i) (fun v => exF ev cL_law 1036 ([v0, v1, v2, v3, v4, v5, v6], []) (.int v :: st) h) := exF_o (i := (i_ai 0 1036)) rfl rfl
theorem eL_law_1036 {ev : xV} {v0 v1 v2 v3 v4 v5 v6 : Option Value} {x : Int32} {st : List Value} {h : xH} : exF ev cL_law 1036 ([v0, v1, v2, v3, v4, v5, v6], []) (.int x :: st) h = if x = 0 then exF ev cL_law 1043 ([v0, v1, v2, v3, v4, v5, v6], []) st h else exF ev cL_law 1039 ([v0, v1, v2, v3, v4, v5, v6], []) st h := exF_b (i := (i_if1 (fun x => x = 0) 1043 1039)) rfl rfl
theorem eL_law_1039 {ev : xV} {v0 v1 v2 v3 v4 v5 v6 : Option Value} {st : List Value} {h : xH} : exF ev cL_law 1039 ([v0, v1, v2, v3, v4, v5, v6], []) st h = exF ev cL_law 1040 ([v0, v1, v2, v3, v4, v5, v6], []) (.int (nI 1) :: st) h := exF_j (i := (i_const (.int (nI 1)) 1040)) rfl rfl
theorem eL_law_1040 {ev : xV} {v0 v1 v2 v3 v4 v5 v6 : Option Value} {st : List Value} {h : xH} : exF ev cL_law 1040 ([v0, v1, v2, v3, v4, v5, v6], []) st h = exF ev cL_law 1044 ([v0, v1, v2, v3, v4, v5, v6], []) st h := exF_j (i := (i_goto 1044)) rfl rfl
theorem eL_law_1043 {ev : xV} {v0 v1 v2 v3 v4 v5 v6 : Option Value} {st : List Value} {h : xH} : exF ev cL_law 1043 ([v0, v1, v2, v3, v4, v5, v6], []) st h = exF ev cL_law 1044 ([v0, v1, v2, v3, v4, v5, v6], []) (.int (nI 0) :: st) h := exF_j (i := (i_const (.int (nI 0)) 1044)) rfl rfl
theorem eL_law_1044 {ev : xV} {v0 v1 v2 v3 v4 v5 v6 : Option Value} {a0 : Value} {a1 : Value} {a2 : Value} {r0 : Value} {a : Nat} {h : xH} : exF ev cL_law 1044 ([v0, v1, v2, v3, v4, v5, v6], []) [a2, a1, a0, .ref a, r0] h = xO (xck h a 4) (fun _ => xB (ev 351 [.ref a, a0, a1, a2] h) (fun v h => exF ev cL_law 1047 ([v0, v1, v2, v3, v4, v5, v6], []) [v, r0] h)) := exF_cd (i := (i_cv 4 351 3 1047)) rfl rfl
theorem eL_law_1047 {ev : xV} {v0 v1 v2 v3 v4 v5 v6 : Option Value} {x y : Int32} {st : List Value} {h : xH} : exF ev cL_law 1047 ([v0, v1, v2, v3, v4, v5, v6], []) (.int y :: .int x :: st) h = if x = y then exF ev cL_law 1512 ([v0, v1, v2, v3, v4, v5, v6], []) st h else exF ev cL_law 1050 ([v0, v1, v2, v3, v4, v5, v6], []) st h := exF_b (i := (i_if2 (fun x y => x = y) 1512 1050)) rfl rfl
theorem eL_law_1050 {ev : xV} {v0 v1 v2 v3 v4 v5 v6 : Option Value} {st : List Value} {h : xH} : exF ev cL_law 1050 ([v0, v1, v2, v3, v4, v5, v6], []) st h = exF ev cL_law 1051 ([v0, v1, v2, v3, v4, v5, v6], []) (.int (nI 0) :: st) h := exF_j (i := (i_const (.int (nI 0)) 1051)) rfl rfl
theorem eL_law_1051 {ev : xV} {v0 v1 v2 v3 v4 v5 v6 : Option Value} {x : Int32} {h : xH} : exF ev cL_law 1051 ([v0, v1, v2, v3, v4, v5, v6], []) [.int x] h = if x = nI 0 ∨ x = nI 1 then some (.inl (some (.int x)), h) else none := exF_z (i := (i_zret)) rfl rfl
theorem eL_law_1051b0 {ev : xV} {v0 v1 v2 v3 v4 v5 v6 : Option Value} {h : xH} : exF ev cL_law 1051 ([v0, v1, v2, v3, v4, v5, v6], []) [.int (nI 0)] h = some (.inl (some (.int (nI 0))), h) := exF_r (i := (i_zret)) rfl i_zret_0
theorem eL_law_1051b1 {ev : xV} {v0 v1 v2 v3 v4 v5 v6 : Option Value} {h : xH} : exF ev cL_law 1051 ([v0, v1, v2, v3, v4, v5, v6], []) [.int (nI 1)] h = some (.inl (some (.int (nI 1))), h) := exF_r (i := (i_zret)) rfl i_zret_1
theorem eL_law_1051b {ev : xV} {v0 v1 v2 v3 v4 v5 v6 : Option Value} {b : Bool} {h : xH} : exF ev cL_law 1051 ([v0, v1, v2, v3, v4, v5, v6], []) [.int (bI b)] h = some (.inl (some (.int (bI b))), h) := exF_r (i := (i_zret)) rfl (i_zret_b b)
theorem eL_law_1052 {ev : xV} {v0 v2 v3 v4 v5 v6 : Option Value} {x : Nat} {st : List Value} {h : xH} : exF ev cL_law 1052 ([v0, some (.ref x), v2, v3, v4, v5, v6], []) st h = exF ev cL_law 1053 ([v0, some (.ref x), v2, v3, v4, v5, v6], []) (.ref x :: st) h := exF_j (i := (i_aload 1 1053)) rfl rfl
theorem eL_law_1053 {ev : xV} {v0 v1 v2 v3 v4 v5 v6 : Option Value} {a : Nat} {h : xH} : exF ev cL_law 1053 ([v0, v1, v2, v3, v4, v5, v6], []) [.ref a] h = xO (xck h a 0) (fun _ => xB (ev 146 [.ref a] h) (fun v h => exF ev cL_law 1056 ([v0, v1, v2, v3, v4, v5, v6], []) [v] h)) := exF_cd (i := (i_cv 0 146 0 1056)) rfl rfl
theorem eL_law_1056 {ev : xV} {v0 v1 v3 v4 v5 v6 : Option Value} {x : Nat} {st : List Value} {h : xH} : exF ev cL_law 1056 ([v0, v1, some (.ref x), v3, v4, v5, v6], []) st h = exF ev cL_law 1057 ([v0, v1, some (.ref x), v3, v4, v5, v6], []) (.ref x :: st) h := exF_j (i := (i_aload 2 1057)) rfl rfl
theorem eL_law_1057 {ev : xV} {v0 v1 v2 v3 v4 v5 v6 : Option Value} {r0 : Value} {a : Nat} {h : xH} : exF ev cL_law 1057 ([v0, v1, v2, v3, v4, v5, v6], []) [.ref a, r0] h = xO (xck h a 4) (fun _ => xB (ev 352 [.ref a] h) (fun v h => exF ev cL_law 1060 ([v0, v1, v2, v3, v4, v5, v6], []) [v, r0] h)) := exF_cd (i := (i_cv 4 352 0 1060)) rfl rfl
theorem eL_law_1060 {ev : xV} {v0 v1 v2 v3 v4 v5 v6 : Option Value} {x y : Int32} {st : List Value} {h : xH} : exF ev cL_law 1060 ([v0, v1, v2, v3, v4, v5, v6], []) (.int y :: .int x :: st) h = if x = y then exF ev cL_law 1512 ([v0, v1, v2, v3, v4, v5, v6], []) st h else exF ev cL_law 1063 ([v0, v1, v2, v3, v4, v5, v6], []) st h := exF_b (i := (i_if2 (fun x y => x = y) 1512 1063)) rfl rfl
theorem eL_law_1063 {ev : xV} {v0 v1 v2 v3 v4 v5 v6 : Option Value} {st : List Value} {h : xH} : exF ev cL_law 1063 ([v0, v1, v2, v3, v4, v5, v6], []) st h = exF ev cL_law 1064 ([v0, v1, v2, v3, v4, v5, v6], []) (.int (nI 0) :: st) h := exF_j (i := (i_const (.int (nI 0)) 1064)) rfl rfl
theorem eL_law_1064 {ev : xV} {v0 v1 v2 v3 v4 v5 v6 : Option Value} {x : Int32} {h : xH} : exF ev cL_law 1064 ([v0, v1, v2, v3, v4, v5, v6], []) [.int x] h = if x = nI 0 ∨ x = nI 1 then some (.inl (some (.int x)), h) else none := exF_z (i := (i_zret)) rfl rfl
theorem eL_law_1064b0 {ev : xV} {v0 v1 v2 v3 v4 v5 v6 : Option Value} {h : xH} : exF ev cL_law 1064 ([v0, v1, v2, v3, v4, v5, v6], []) [.int (nI 0)] h = some (.inl (some (.int (nI 0))), h) := exF_r (i := (i_zret)) rfl i_zret_0
theorem eL_law_1064b1 {ev : xV} {v0 v1 v2 v3 v4 v5 v6 : Option Value} {h : xH} : exF ev cL_law 1064 ([v0, v1, v2, v3, v4, v5, v6], []) [.int (nI 1)] h = some (.inl (some (.int (nI 1))), h) := exF_r (i := (i_zret)) rfl i_zret_1
theorem eL_law_1064b {ev : xV} {v0 v1 v2 v3 v4 v5 v6 : Option Value} {b : Bool} {h : xH} : exF ev cL_law 1064 ([v0, v1, v2, v3, v4, v5, v6], []) [.int (bI b)] h = some (.inl (some (.int (bI b))), h) := exF_r (i := (i_zret)) rfl (i_zret_b b)
theorem eL_law_1065 {ev : xV} {v0 v2 v3 v4 v5 v6 : Option Value} {x : Nat} {st : List Value} {h : xH} : exF ev cL_law 1065 ([v0, some (.ref x), v2, v3, v4, v5, v6], []) st h = exF ev cL_law 1066 ([v0, some (.ref x), v2, v3, v4, v5, v6], []) (.ref x :: st) h := exF_j (i := (i_aload 1 1066)) rfl rfl
theorem eL_law_1066 {ev : xV} {v0 v1 v2 v3 v4 v5 v6 : Option Value} {a : Nat} {h : xH} : exF ev cL_law 1066 ([v0, v1, v2, v3, v4, v5, v6], []) [.ref a] h = xO (xck h a 0) (fun _ => xB (ev 148 [.ref a] h) (fun v h => exF ev cL_law 1069 ([v0, v1, v2, v3, v4, v5, v6], []) [v] h)) := exF_cd (i := (i_cv 0 148 0 1069)) rfl rfl
theorem eL_law_1069 {ev : xV} {v0 v1 v3 v4 v5 v6 : Option Value} {x : Nat} {st : List Value} {h : xH} : exF ev cL_law 1069 ([v0, v1, some (.ref x), v3, v4, v5, v6], []) st h = exF ev cL_law 1070 ([v0, v1, some (.ref x), v3, v4, v5, v6], []) (.ref x :: st) h := exF_j (i := (i_aload 2 1070)) rfl rfl
theorem eL_law_1070 {ev : xV} {v0 v1 v2 v3 v4 v5 v6 : Option Value} {r0 : Value} {a : Nat} {h : xH} : exF ev cL_law 1070 ([v0, v1, v2, v3, v4, v5, v6], []) [.ref a, r0] h = xO (xck h a 4) (fun _ => xB (ev 354 [.ref a] h) (fun v h => exF ev cL_law 1073 ([v0, v1, v2, v3, v4, v5, v6], []) [v, r0] h)) := exF_cd (i := (i_cv 4 354 0 1073)) rfl rfl
theorem eL_law_1073 {ev : xV} {v0 v1 v2 v3 v4 v5 v6 : Option Value} {x y : Int32} {st : List Value} {h : xH} : exF ev cL_law 1073 ([v0, v1, v2, v3, v4, v5, v6], []) (.int y :: .int x :: st) h = if x = y then exF ev cL_law 1512 ([v0, v1, v2, v3, v4, v5, v6], []) st h else exF ev cL_law 1076 ([v0, v1, v2, v3, v4, v5, v6], []) st h := exF_b (i := (i_if2 (fun x y => x = y) 1512 1076)) rfl rfl
theorem eL_law_1076 {ev : xV} {v0 v1 v2 v3 v4 v5 v6 : Option Value} {st : List Value} {h : xH} : exF ev cL_law 1076 ([v0, v1, v2, v3, v4, v5, v6], []) st h = exF ev cL_law 1077 ([v0, v1, v2, v3, v4, v5, v6], []) (.int (nI 0) :: st) h := exF_j (i := (i_const (.int (nI 0)) 1077)) rfl rfl
theorem eL_law_1077 {ev : xV} {v0 v1 v2 v3 v4 v5 v6 : Option Value} {x : Int32} {h : xH} : exF ev cL_law 1077 ([v0, v1, v2, v3, v4, v5, v6], []) [.int x] h = if x = nI 0 ∨ x = nI 1 then some (.inl (some (.int x)), h) else none := exF_z (i := (i_zret)) rfl rfl
theorem eL_law_1077b0 {ev : xV} {v0 v1 v2 v3 v4 v5 v6 : Option Value} {h : xH} : exF ev cL_law 1077 ([v0, v1, v2, v3, v4, v5, v6], []) [.int (nI 0)] h = some (.inl (some (.int (nI 0))), h) := exF_r (i := (i_zret)) rfl i_zret_0
theorem eL_law_1077b1 {ev : xV} {v0 v1 v2 v3 v4 v5 v6 : Option Value} {h : xH} : exF ev cL_law 1077 ([v0, v1, v2, v3, v4, v5, v6], []) [.int (nI 1)] h = some (.inl (some (.int (nI 1))), h) := exF_r (i := (i_zret)) rfl i_zret_1
theorem eL_law_1077b {ev : xV} {v0 v1 v2 v3 v4 v5 v6 : Option Value} {b : Bool} {h : xH} : exF ev cL_law 1077 ([v0, v1, v2, v3, v4, v5, v6], []) [.int (bI b)] h = some (.inl (some (.int (bI b))), h) := exF_r (i := (i_zret)) rfl (i_zret_b b)
theorem eL_law_1078 {ev : xV} {v0 v2 v3 v4 v5 v6 : Option Value} {x : Nat} {st : List Value} {h : xH} : exF ev cL_law 1078 ([v0, some (.ref x), v2, v3, v4, v5, v6], []) st h = exF ev cL_law 1079 ([v0, some (.ref x), v2, v3, v4, v5, v6], []) (.ref x :: st) h := exF_j (i := (i_aload 1 1079)) rfl rfl
theorem eL_law_1079 {ev : xV} {v1 v2 v3 v4 v5 v6 : Option Value} {x : Nat} {st : List Value} {h : xH} : exF ev cL_law 1079 ([some (.ref x), v1, v2, v3, v4, v5, v6], []) st h = exF ev cL_law 1080 ([some (.ref x), v1, v2, v3, v4, v5, v6], []) (.ref x :: st) h := exF_j (i := (i_aload 0 1080)) rfl rfl
theorem eL_law_1080 {ev : xV} {v0 v1 v2 v3 v5 v6 : Option Value} {x : Int32} {st : List Value} {h : xH} : exF ev cL_law 1080 ([v0, v1, v2, v3, some (.int x), v5, v6], []) st h = exF ev cL_law 1082 ([v0, v1, v2, v3, some (.int x), v5, v6], []) (.int x :: st) h := exF_j (i := (i_iload 4 1082)) rfl rfl
theorem eL_law_1082 {ev : xV} {v0 v1 v2 v3 v4 v5 v6 : Option Value} {st : List Value} {h : xH} : exF ev cL_law 1082 ([v0, v1, v2, v3, v4, v5, v6], []) st h = exF ev cL_law 1083 ([v0, v1, v2, v3, v4, v5, v6], []) (.int (nI 1) :: st) h := exF_j (i := (i_const (.int (nI 1)) 1083)) rfl rfl
theorem eL_law_1083 {ev : xV} {v0 v1 v2 v3 v4 v5 v6 : Option Value} {x y : Int32} {st : List Value} {h : xH} : exF ev cL_law 1083 ([v0, v1, v2, v3, v4, v5, v6], []) (.int y :: .int x :: st) h = exF ev cL_law 1084 ([v0, v1, v2, v3, v4, v5, v6], []) (.int (x + y) :: st) h := exF_j (i := (i_ii (fun x y => x + y) 1084)) rfl rfl
theorem eL_law_1084 {ev : xV} {v0 v1 v2 v3 v4 v5 v6 : Option Value} {i : Int32} {a : Nat} {st : List Value} {h : xH} : exF ev cL_law 1084 ([v0, v1, v2, v3, v4, v5, v6], []) (.int i :: .ref a :: st) h = xO (xai h 0 a i) (fun v => exF ev cL_law 1085 ([v0, v1, v2, v3, v4, v5, v6], []) (.int v :: st) h) := exF_o (i := (i_ai 0 1085)) rfl rfl
theorem eL_law_1085 {ev : xV} {v1 v2 v3 v4 v5 v6 : Option Value} {x : Nat} {st : List Value} {h : xH} : exF ev cL_law 1085 ([some (.ref x), v1, v2, v3, v4, v5, v6], []) st h = exF ev cL_law 1086 ([some (.ref x), v1, v2, v3, v4, v5, v6], []) (.ref x :: st) h := exF_j (i := (i_aload 0 1086)) rfl rfl
theorem eL_law_1086 {ev : xV} {v0 v1 v2 v3 v5 v6 : Option Value} {x : Int32} {st : List Value} {h : xH} : exF ev cL_law 1086 ([v0, v1, v2, v3, some (.int x), v5, v6], []) st h = exF ev cL_law 1088 ([v0, v1, v2, v3, some (.int x), v5, v6], []) (.int x :: st) h := exF_j (i := (i_iload 4 1088)) rfl rfl
theorem eL_law_1088 {ev : xV} {v0 v1 v2 v3 v4 v5 v6 : Option Value} {st : List Value} {h : xH} : exF ev cL_law 1088 ([v0, v1, v2, v3, v4, v5, v6], []) st h = exF ev cL_law 1089 ([v0, v1, v2, v3, v4, v5, v6], []) (.int (nI 2) :: st) h := exF_j (i := (i_const (.int (nI 2)) 1089)) rfl rfl
theorem eL_law_1089 {ev : xV} {v0 v1 v2 v3 v4 v5 v6 : Option Value} {x y : Int32} {st : List Value} {h : xH} : exF ev cL_law 1089 ([v0, v1, v2, v3, v4, v5, v6], []) (.int y :: .int x :: st) h = exF ev cL_law 1090 ([v0, v1, v2, v3, v4, v5, v6], []) (.int (x + y) :: st) h := exF_j (i := (i_ii (fun x y => x + y) 1090)) rfl rfl
theorem eL_law_1090 {ev : xV} {v0 v1 v2 v3 v4 v5 v6 : Option Value} {i : Int32} {a : Nat} {st : List Value} {h : xH} : exF ev cL_law 1090 ([v0, v1, v2, v3, v4, v5, v6], []) (.int i :: .ref a :: st) h = xO (xai h 0 a i) (fun v => exF ev cL_law 1091 ([v0, v1, v2, v3, v4, v5, v6], []) (.int v :: st) h) := exF_o (i := (i_ai 0 1091)) rfl rfl
theorem eL_law_1091 {ev : xV} {v0 v1 v2 v3 v4 v5 v6 : Option Value} {a0 : Value} {a1 : Value} {a : Nat} {h : xH} : exF ev cL_law 1091 ([v0, v1, v2, v3, v4, v5, v6], []) [a1, a0, .ref a] h = xO (xck h a 0) (fun _ => xB (ev 149 [.ref a, a0, a1] h) (fun v h => exF ev cL_law 1094 ([v0, v1, v2, v3, v4, v5, v6], []) [v] h)) := exF_cd (i := (i_cv 0 149 2 1094)) rfl rfl
theorem eL_law_1094 {ev : xV} {v0 v1 v3 v4 v5 v6 : Option Value} {x : Nat} {st : List Value} {h : xH} : exF ev cL_law 1094 ([v0, v1, some (.ref x), v3, v4, v5, v6], []) st h = exF ev cL_law 1095 ([v0, v1, some (.ref x), v3, v4, v5, v6], []) (.ref x :: st) h := exF_j (i := (i_aload 2 1095)) rfl rfl
theorem eL_law_1095 {ev : xV} {v1 v2 v3 v4 v5 v6 : Option Value} {x : Nat} {st : List Value} {h : xH} : exF ev cL_law 1095 ([some (.ref x), v1, v2, v3, v4, v5, v6], []) st h = exF ev cL_law 1096 ([some (.ref x), v1, v2, v3, v4, v5, v6], []) (.ref x :: st) h := exF_j (i := (i_aload 0 1096)) rfl rfl
theorem eL_law_1096 {ev : xV} {v0 v1 v2 v3 v5 v6 : Option Value} {x : Int32} {st : List Value} {h : xH} : exF ev cL_law 1096 ([v0, v1, v2, v3, some (.int x), v5, v6], []) st h = exF ev cL_law 1098 ([v0, v1, v2, v3, some (.int x), v5, v6], []) (.int x :: st) h := exF_j (i := (i_iload 4 1098)) rfl rfl
theorem eL_law_1098 {ev : xV} {v0 v1 v2 v3 v4 v5 v6 : Option Value} {st : List Value} {h : xH} : exF ev cL_law 1098 ([v0, v1, v2, v3, v4, v5, v6], []) st h = exF ev cL_law 1099 ([v0, v1, v2, v3, v4, v5, v6], []) (.int (nI 1) :: st) h := exF_j (i := (i_const (.int (nI 1)) 1099)) rfl rfl
theorem eL_law_1099 {ev : xV} {v0 v1 v2 v3 v4 v5 v6 : Option Value} {x y : Int32} {st : List Value} {h : xH} : exF ev cL_law 1099 ([v0, v1, v2, v3, v4, v5, v6], []) (.int y :: .int x :: st) h = exF ev cL_law 1100 ([v0, v1, v2, v3, v4, v5, v6], []) (.int (x + y) :: st) h := exF_j (i := (i_ii (fun x y => x + y) 1100)) rfl rfl
theorem eL_law_1100 {ev : xV} {v0 v1 v2 v3 v4 v5 v6 : Option Value} {i : Int32} {a : Nat} {st : List Value} {h : xH} : exF ev cL_law 1100 ([v0, v1, v2, v3, v4, v5, v6], []) (.int i :: .ref a :: st) h = xO (xai h 0 a i) (fun v => exF ev cL_law 1101 ([v0, v1, v2, v3, v4, v5, v6], []) (.int v :: st) h) := exF_o (i := (i_ai 0 1101)) rfl rfl
theorem eL_law_1101 {ev : xV} {v1 v2 v3 v4 v5 v6 : Option Value} {x : Nat} {st : List Value} {h : xH} : exF ev cL_law 1101 ([some (.ref x), v1, v2, v3, v4, v5, v6], []) st h = exF ev cL_law 1102 ([some (.ref x), v1, v2, v3, v4, v5, v6], []) (.ref x :: st) h := exF_j (i := (i_aload 0 1102)) rfl rfl
theorem eL_law_1102 {ev : xV} {v0 v1 v2 v3 v5 v6 : Option Value} {x : Int32} {st : List Value} {h : xH} : exF ev cL_law 1102 ([v0, v1, v2, v3, some (.int x), v5, v6], []) st h = exF ev cL_law 1104 ([v0, v1, v2, v3, some (.int x), v5, v6], []) (.int x :: st) h := exF_j (i := (i_iload 4 1104)) rfl rfl
theorem eL_law_1104 {ev : xV} {v0 v1 v2 v3 v4 v5 v6 : Option Value} {st : List Value} {h : xH} : exF ev cL_law 1104 ([v0, v1, v2, v3, v4, v5, v6], []) st h = exF ev cL_law 1105 ([v0, v1, v2, v3, v4, v5, v6], []) (.int (nI 2) :: st) h := exF_j (i := (i_const (.int (nI 2)) 1105)) rfl rfl
theorem eL_law_1105 {ev : xV} {v0 v1 v2 v3 v4 v5 v6 : Option Value} {x y : Int32} {st : List Value} {h : xH} : exF ev cL_law 1105 ([v0, v1, v2, v3, v4, v5, v6], []) (.int y :: .int x :: st) h = exF ev cL_law 1106 ([v0, v1, v2, v3, v4, v5, v6], []) (.int (x + y) :: st) h := exF_j (i := (i_ii (fun x y => x + y) 1106)) rfl rfl
theorem eL_law_1106 {ev : xV} {v0 v1 v2 v3 v4 v5 v6 : Option Value} {i : Int32} {a : Nat} {st : List Value} {h : xH} : exF ev cL_law 1106 ([v0, v1, v2, v3, v4, v5, v6], []) (.int i :: .ref a :: st) h = xO (xai h 0 a i) (fun v => exF ev cL_law 1107 ([v0, v1, v2, v3, v4, v5, v6], []) (.int v :: st) h) := exF_o (i := (i_ai 0 1107)) rfl rfl
theorem eL_law_1107 {ev : xV} {v0 v1 v2 v3 v4 v5 v6 : Option Value} {a0 : Value} {a1 : Value} {r0 : Value} {a : Nat} {h : xH} : exF ev cL_law 1107 ([v0, v1, v2, v3, v4, v5, v6], []) [a1, a0, .ref a, r0] h = xO (xck h a 4) (fun _ => xB (ev 355 [.ref a, a0, a1] h) (fun v h => exF ev cL_law 1110 ([v0, v1, v2, v3, v4, v5, v6], []) [v, r0] h)) := exF_cd (i := (i_cv 4 355 2 1110)) rfl rfl
theorem eL_law_1110 {ev : xV} {v0 v1 v2 v3 v4 v5 v6 : Option Value} {x y : Int32} {st : List Value} {h : xH} : exF ev cL_law 1110 ([v0, v1, v2, v3, v4, v5, v6], []) (.int y :: .int x :: st) h = if x = y then exF ev cL_law 1512 ([v0, v1, v2, v3, v4, v5, v6], []) st h else exF ev cL_law 1113 ([v0, v1, v2, v3, v4, v5, v6], []) st h := exF_b (i := (i_if2 (fun x y => x = y) 1512 1113)) rfl rfl
theorem eL_law_1113 {ev : xV} {v0 v1 v2 v3 v4 v5 v6 : Option Value} {st : List Value} {h : xH} : exF ev cL_law 1113 ([v0, v1, v2, v3, v4, v5, v6], []) st h = exF ev cL_law 1114 ([v0, v1, v2, v3, v4, v5, v6], []) (.int (nI 0) :: st) h := exF_j (i := (i_const (.int (nI 0)) 1114)) rfl rfl
theorem eL_law_1114 {ev : xV} {v0 v1 v2 v3 v4 v5 v6 : Option Value} {x : Int32} {h : xH} : exF ev cL_law 1114 ([v0, v1, v2, v3, v4, v5, v6], []) [.int x] h = if x = nI 0 ∨ x = nI 1 then some (.inl (some (.int x)), h) else none := exF_z (i := (i_zret)) rfl rfl
theorem eL_law_1114b0 {ev : xV} {v0 v1 v2 v3 v4 v5 v6 : Option Value} {h : xH} : exF ev cL_law 1114 ([v0, v1, v2, v3, v4, v5, v6], []) [.int (nI 0)] h = some (.inl (some (.int (nI 0))), h) := exF_r (i := (i_zret)) rfl i_zret_0
theorem eL_law_1114b1 {ev : xV} {v0 v1 v2 v3 v4 v5 v6 : Option Value} {h : xH} : exF ev cL_law 1114 ([v0, v1, v2, v3, v4, v5, v6], []) [.int (nI 1)] h = some (.inl (some (.int (nI 1))), h) := exF_r (i := (i_zret)) rfl i_zret_1
theorem eL_law_1114b {ev : xV} {v0 v1 v2 v3 v4 v5 v6 : Option Value} {b : Bool} {h : xH} : exF ev cL_law 1114 ([v0, v1, v2, v3, v4, v5, v6], []) [.int (bI b)] h = some (.inl (some (.int (bI b))), h) := exF_r (i := (i_zret)) rfl (i_zret_b b)
theorem eL_law_1115 {ev : xV} {v0 v2 v3 v4 v5 v6 : Option Value} {x : Nat} {st : List Value} {h : xH} : exF ev cL_law 1115 ([v0, some (.ref x), v2, v3, v4, v5, v6], []) st h = exF ev cL_law 1116 ([v0, some (.ref x), v2, v3, v4, v5, v6], []) (.ref x :: st) h := exF_j (i := (i_aload 1 1116)) rfl rfl
theorem eL_law_1116 {ev : xV} {v0 v1 v2 v3 v4 v5 v6 : Option Value} {a : Nat} {h : xH} : exF ev cL_law 1116 ([v0, v1, v2, v3, v4, v5, v6], []) [.ref a] h = xO (xck h a 0) (fun _ => xB (ev 150 [.ref a] h) (fun v h => exF ev cL_law 1119 ([v0, v1, v2, v3, v4, v5, v6], []) [v] h)) := exF_cd (i := (i_cv 0 150 0 1119)) rfl rfl
theorem eL_law_1119 {ev : xV} {v0 v1 v3 v4 v5 v6 : Option Value} {x : Nat} {st : List Value} {h : xH} : exF ev cL_law 1119 ([v0, v1, some (.ref x), v3, v4, v5, v6], []) st h = exF ev cL_law 1120 ([v0, v1, some (.ref x), v3, v4, v5, v6], []) (.ref x :: st) h := exF_j (i := (i_aload 2 1120)) rfl rfl
theorem eL_law_1120 {ev : xV} {v0 v1 v2 v3 v4 v5 v6 : Option Value} {r0 : Value} {a : Nat} {h : xH} : exF ev cL_law 1120 ([v0, v1, v2, v3, v4, v5, v6], []) [.ref a, r0] h = xO (xck h a 4) (fun _ => xB (ev 356 [.ref a] h) (fun v h => exF ev cL_law 1123 ([v0, v1, v2, v3, v4, v5, v6], []) [v, r0] h)) := exF_cd (i := (i_cv 4 356 0 1123)) rfl rfl
theorem eL_law_1123 {ev : xV} {v0 v1 v2 v3 v4 v5 v6 : Option Value} {x y : Int32} {st : List Value} {h : xH} : exF ev cL_law 1123 ([v0, v1, v2, v3, v4, v5, v6], []) (.int y :: .int x :: st) h = if x = y then exF ev cL_law 1512 ([v0, v1, v2, v3, v4, v5, v6], []) st h else exF ev cL_law 1126 ([v0, v1, v2, v3, v4, v5, v6], []) st h := exF_b (i := (i_if2 (fun x y => x = y) 1512 1126)) rfl rfl
theorem eL_law_1126 {ev : xV} {v0 v1 v2 v3 v4 v5 v6 : Option Value} {st : List Value} {h : xH} : exF ev cL_law 1126 ([v0, v1, v2, v3, v4, v5, v6], []) st h = exF ev cL_law 1127 ([v0, v1, v2, v3, v4, v5, v6], []) (.int (nI 0) :: st) h := exF_j (i := (i_const (.int (nI 0)) 1127)) rfl rfl
theorem eL_law_1127 {ev : xV} {v0 v1 v2 v3 v4 v5 v6 : Option Value} {x : Int32} {h : xH} : exF ev cL_law 1127 ([v0, v1, v2, v3, v4, v5, v6], []) [.int x] h = if x = nI 0 ∨ x = nI 1 then some (.inl (some (.int x)), h) else none := exF_z (i := (i_zret)) rfl rfl
theorem eL_law_1127b0 {ev : xV} {v0 v1 v2 v3 v4 v5 v6 : Option Value} {h : xH} : exF ev cL_law 1127 ([v0, v1, v2, v3, v4, v5, v6], []) [.int (nI 0)] h = some (.inl (some (.int (nI 0))), h) := exF_r (i := (i_zret)) rfl i_zret_0
theorem eL_law_1127b1 {ev : xV} {v0 v1 v2 v3 v4 v5 v6 : Option Value} {h : xH} : exF ev cL_law 1127 ([v0, v1, v2, v3, v4, v5, v6], []) [.int (nI 1)] h = some (.inl (some (.int (nI 1))), h) := exF_r (i := (i_zret)) rfl i_zret_1
theorem eL_law_1127b {ev : xV} {v0 v1 v2 v3 v4 v5 v6 : Option Value} {b : Bool} {h : xH} : exF ev cL_law 1127 ([v0, v1, v2, v3, v4, v5, v6], []) [.int (bI b)] h = some (.inl (some (.int (bI b))), h) := exF_r (i := (i_zret)) rfl (i_zret_b b)
theorem eL_law_1128 {ev : xV} {v0 v2 v3 v4 v5 v6 : Option Value} {x : Nat} {st : List Value} {h : xH} : exF ev cL_law 1128 ([v0, some (.ref x), v2, v3, v4, v5, v6], []) st h = exF ev cL_law 1129 ([v0, some (.ref x), v2, v3, v4, v5, v6], []) (.ref x :: st) h := exF_j (i := (i_aload 1 1129)) rfl rfl
theorem eL_law_1129 {ev : xV} {v0 v1 v2 v3 v4 v5 v6 : Option Value} {a : Nat} {h : xH} : exF ev cL_law 1129 ([v0, v1, v2, v3, v4, v5, v6], []) [.ref a] h = xO (xck h a 0) (fun _ => xB (ev 151 [.ref a] h) (fun v h => exF ev cL_law 1132 ([v0, v1, v2, v3, v4, v5, v6], []) [v] h)) := exF_cd (i := (i_cv 0 151 0 1132)) rfl rfl
theorem eL_law_1132 {ev : xV} {v0 v1 v3 v4 v5 v6 : Option Value} {x : Nat} {st : List Value} {h : xH} : exF ev cL_law 1132 ([v0, v1, some (.ref x), v3, v4, v5, v6], []) st h = exF ev cL_law 1133 ([v0, v1, some (.ref x), v3, v4, v5, v6], []) (.ref x :: st) h := exF_j (i := (i_aload 2 1133)) rfl rfl
theorem eL_law_1133 {ev : xV} {v0 v1 v2 v3 v4 v5 v6 : Option Value} {r0 : Value} {a : Nat} {h : xH} : exF ev cL_law 1133 ([v0, v1, v2, v3, v4, v5, v6], []) [.ref a, r0] h = xO (xck h a 4) (fun _ => xB (ev 334 [.ref a] h) (fun v h => exF ev cL_law 1136 ([v0, v1, v2, v3, v4, v5, v6], []) [v, r0] h)) := exF_cd (i := (i_cv 4 334 0 1136)) rfl rfl
theorem eL_law_1136 {ev : xV} {v0 v1 v2 v3 v4 v5 v6 : Option Value} {x y : Int32} {st : List Value} {h : xH} : exF ev cL_law 1136 ([v0, v1, v2, v3, v4, v5, v6], []) (.int y :: .int x :: st) h = if x = y then exF ev cL_law 1512 ([v0, v1, v2, v3, v4, v5, v6], []) st h else exF ev cL_law 1139 ([v0, v1, v2, v3, v4, v5, v6], []) st h := exF_b (i := (i_if2 (fun x y => x = y) 1512 1139)) rfl rfl
theorem eL_law_1139 {ev : xV} {v0 v1 v2 v3 v4 v5 v6 : Option Value} {st : List Value} {h : xH} : exF ev cL_law 1139 ([v0, v1, v2, v3, v4, v5, v6], []) st h = exF ev cL_law 1140 ([v0, v1, v2, v3, v4, v5, v6], []) (.int (nI 0) :: st) h := exF_j (i := (i_const (.int (nI 0)) 1140)) rfl rfl
theorem eL_law_1140 {ev : xV} {v0 v1 v2 v3 v4 v5 v6 : Option Value} {x : Int32} {h : xH} : exF ev cL_law 1140 ([v0, v1, v2, v3, v4, v5, v6], []) [.int x] h = if x = nI 0 ∨ x = nI 1 then some (.inl (some (.int x)), h) else none := exF_z (i := (i_zret)) rfl rfl
theorem eL_law_1140b0 {ev : xV} {v0 v1 v2 v3 v4 v5 v6 : Option Value} {h : xH} : exF ev cL_law 1140 ([v0, v1, v2, v3, v4, v5, v6], []) [.int (nI 0)] h = some (.inl (some (.int (nI 0))), h) := exF_r (i := (i_zret)) rfl i_zret_0
theorem eL_law_1140b1 {ev : xV} {v0 v1 v2 v3 v4 v5 v6 : Option Value} {h : xH} : exF ev cL_law 1140 ([v0, v1, v2, v3, v4, v5, v6], []) [.int (nI 1)] h = some (.inl (some (.int (nI 1))), h) := exF_r (i := (i_zret)) rfl i_zret_1
theorem eL_law_1140b {ev : xV} {v0 v1 v2 v3 v4 v5 v6 : Option Value} {b : Bool} {h : xH} : exF ev cL_law 1140 ([v0, v1, v2, v3, v4, v5, v6], []) [.int (bI b)] h = some (.inl (some (.int (bI b))), h) := exF_r (i := (i_zret)) rfl (i_zret_b b)
theorem eL_law_1141 {ev : xV} {v0 v2 v3 v4 v5 v6 : Option Value} {x : Nat} {st : List Value} {h : xH} : exF ev cL_law 1141 ([v0, some (.ref x), v2, v3, v4, v5, v6], []) st h = exF ev cL_law 1142 ([v0, some (.ref x), v2, v3, v4, v5, v6], []) (.ref x :: st) h := exF_j (i := (i_aload 1 1142)) rfl rfl
theorem eL_law_1142 {ev : xV} {v0 v1 v2 v3 v4 v5 v6 : Option Value} {a : Nat} {h : xH} : exF ev cL_law 1142 ([v0, v1, v2, v3, v4, v5, v6], []) [.ref a] h = xO (xck h a 0) (fun _ => xB (ev 126 [.ref a] h) (fun v h => exF ev cL_law 1145 ([v0, v1, v2, v3, v4, v5, v6], []) [v] h)) := exF_cd (i := (i_cv 0 126 0 1145)) rfl rfl
theorem eL_law_1145 {ev : xV} {v0 v1 v3 v4 v5 v6 : Option Value} {x : Nat} {st : List Value} {h : xH} : exF ev cL_law 1145 ([v0, v1, some (.ref x), v3, v4, v5, v6], []) st h = exF ev cL_law 1146 ([v0, v1, some (.ref x), v3, v4, v5, v6], []) (.ref x :: st) h := exF_j (i := (i_aload 2 1146)) rfl rfl
theorem eL_law_1146 {ev : xV} {v0 v1 v2 v3 v4 v5 v6 : Option Value} {r0 : Value} {a : Nat} {h : xH} : exF ev cL_law 1146 ([v0, v1, v2, v3, v4, v5, v6], []) [.ref a, r0] h = xO (xck h a 4) (fun _ => xB (ev 328 [.ref a] h) (fun v h => exF ev cL_law 1149 ([v0, v1, v2, v3, v4, v5, v6], []) [v, r0] h)) := exF_cd (i := (i_cv 4 328 0 1149)) rfl rfl
theorem eL_law_1149 {ev : xV} {v0 v1 v2 v3 v4 v5 v6 : Option Value} {x y : Int32} {st : List Value} {h : xH} : exF ev cL_law 1149 ([v0, v1, v2, v3, v4, v5, v6], []) (.int y :: .int x :: st) h = if x = y then exF ev cL_law 1512 ([v0, v1, v2, v3, v4, v5, v6], []) st h else exF ev cL_law 1152 ([v0, v1, v2, v3, v4, v5, v6], []) st h := exF_b (i := (i_if2 (fun x y => x = y) 1512 1152)) rfl rfl
theorem eL_law_1152 {ev : xV} {v0 v1 v2 v3 v4 v5 v6 : Option Value} {st : List Value} {h : xH} : exF ev cL_law 1152 ([v0, v1, v2, v3, v4, v5, v6], []) st h = exF ev cL_law 1153 ([v0, v1, v2, v3, v4, v5, v6], []) (.int (nI 0) :: st) h := exF_j (i := (i_const (.int (nI 0)) 1153)) rfl rfl
theorem eL_law_1153 {ev : xV} {v0 v1 v2 v3 v4 v5 v6 : Option Value} {x : Int32} {h : xH} : exF ev cL_law 1153 ([v0, v1, v2, v3, v4, v5, v6], []) [.int x] h = if x = nI 0 ∨ x = nI 1 then some (.inl (some (.int x)), h) else none := exF_z (i := (i_zret)) rfl rfl
theorem eL_law_1153b0 {ev : xV} {v0 v1 v2 v3 v4 v5 v6 : Option Value} {h : xH} : exF ev cL_law 1153 ([v0, v1, v2, v3, v4, v5, v6], []) [.int (nI 0)] h = some (.inl (some (.int (nI 0))), h) := exF_r (i := (i_zret)) rfl i_zret_0
theorem eL_law_1153b1 {ev : xV} {v0 v1 v2 v3 v4 v5 v6 : Option Value} {h : xH} : exF ev cL_law 1153 ([v0, v1, v2, v3, v4, v5, v6], []) [.int (nI 1)] h = some (.inl (some (.int (nI 1))), h) := exF_r (i := (i_zret)) rfl i_zret_1
theorem eL_law_1153b {ev : xV} {v0 v1 v2 v3 v4 v5 v6 : Option Value} {b : Bool} {h : xH} : exF ev cL_law 1153 ([v0, v1, v2, v3, v4, v5, v6], []) [.int (bI b)] h = some (.inl (some (.int (bI b))), h) := exF_r (i := (i_zret)) rfl (i_zret_b b)
theorem eL_law_1154 {ev : xV} {v0 v2 v3 v4 v5 v6 : Option Value} {x : Nat} {st : List Value} {h : xH} : exF ev cL_law 1154 ([v0, some (.ref x), v2, v3, v4, v5, v6], []) st h = exF ev cL_law 1155 ([v0, some (.ref x), v2, v3, v4, v5, v6], []) (.ref x :: st) h := exF_j (i := (i_aload 1 1155)) rfl rfl
theorem eL_law_1155 {ev : xV} {v0 v1 v2 v3 v4 v5 v6 : Option Value} {a : Nat} {h : xH} : exF ev cL_law 1155 ([v0, v1, v2, v3, v4, v5, v6], []) [.ref a] h = xO (xck h a 0) (fun _ => xB (ev 128 [.ref a] h) (fun v h => exF ev cL_law 1158 ([v0, v1, v2, v3, v4, v5, v6], []) [v] h)) := exF_cd (i := (i_cv 0 128 0 1158)) rfl rfl
theorem eL_law_1158 {ev : xV} {v0 v1 v3 v4 v5 v6 : Option Value} {x : Nat} {st : List Value} {h : xH} : exF ev cL_law 1158 ([v0, v1, some (.ref x), v3, v4, v5, v6], []) st h = exF ev cL_law 1159 ([v0, v1, some (.ref x), v3, v4, v5, v6], []) (.ref x :: st) h := exF_j (i := (i_aload 2 1159)) rfl rfl
theorem eL_law_1159 {ev : xV} {v0 v1 v2 v3 v4 v5 v6 : Option Value} {r0 : Value} {a : Nat} {h : xH} : exF ev cL_law 1159 ([v0, v1, v2, v3, v4, v5, v6], []) [.ref a, r0] h = xO (xck h a 4) (fun _ => xB (ev 327 [.ref a] h) (fun v h => exF ev cL_law 1162 ([v0, v1, v2, v3, v4, v5, v6], []) [v, r0] h)) := exF_cd (i := (i_cv 4 327 0 1162)) rfl rfl
theorem eL_law_1162 {ev : xV} {v0 v1 v2 v3 v4 v5 v6 : Option Value} {x y : Int32} {st : List Value} {h : xH} : exF ev cL_law 1162 ([v0, v1, v2, v3, v4, v5, v6], []) (.int y :: .int x :: st) h = if x = y then exF ev cL_law 1512 ([v0, v1, v2, v3, v4, v5, v6], []) st h else exF ev cL_law 1165 ([v0, v1, v2, v3, v4, v5, v6], []) st h := exF_b (i := (i_if2 (fun x y => x = y) 1512 1165)) rfl rfl
theorem eL_law_1165 {ev : xV} {v0 v1 v2 v3 v4 v5 v6 : Option Value} {st : List Value} {h : xH} : exF ev cL_law 1165 ([v0, v1, v2, v3, v4, v5, v6], []) st h = exF ev cL_law 1166 ([v0, v1, v2, v3, v4, v5, v6], []) (.int (nI 0) :: st) h := exF_j (i := (i_const (.int (nI 0)) 1166)) rfl rfl
theorem eL_law_1166 {ev : xV} {v0 v1 v2 v3 v4 v5 v6 : Option Value} {x : Int32} {h : xH} : exF ev cL_law 1166 ([v0, v1, v2, v3, v4, v5, v6], []) [.int x] h = if x = nI 0 ∨ x = nI 1 then some (.inl (some (.int x)), h) else none := exF_z (i := (i_zret)) rfl rfl
theorem eL_law_1166b0 {ev : xV} {v0 v1 v2 v3 v4 v5 v6 : Option Value} {h : xH} : exF ev cL_law 1166 ([v0, v1, v2, v3, v4, v5, v6], []) [.int (nI 0)] h = some (.inl (some (.int (nI 0))), h) := exF_r (i := (i_zret)) rfl i_zret_0
theorem eL_law_1166b1 {ev : xV} {v0 v1 v2 v3 v4 v5 v6 : Option Value} {h : xH} : exF ev cL_law 1166 ([v0, v1, v2, v3, v4, v5, v6], []) [.int (nI 1)] h = some (.inl (some (.int (nI 1))), h) := exF_r (i := (i_zret)) rfl i_zret_1
theorem eL_law_1166b {ev : xV} {v0 v1 v2 v3 v4 v5 v6 : Option Value} {b : Bool} {h : xH} : exF ev cL_law 1166 ([v0, v1, v2, v3, v4, v5, v6], []) [.int (bI b)] h = some (.inl (some (.int (bI b))), h) := exF_r (i := (i_zret)) rfl (i_zret_b b)
theorem eL_law_1167 {ev : xV} {v0 v2 v3 v4 v5 v6 : Option Value} {x : Nat} {st : List Value} {h : xH} : exF ev cL_law 1167 ([v0, some (.ref x), v2, v3, v4, v5, v6], []) st h = exF ev cL_law 1168 ([v0, some (.ref x), v2, v3, v4, v5, v6], []) (.ref x :: st) h := exF_j (i := (i_aload 1 1168)) rfl rfl
theorem eL_law_1168 {ev : xV} {v0 v1 v2 v3 v4 v5 v6 : Option Value} {a : Nat} {h : xH} : exF ev cL_law 1168 ([v0, v1, v2, v3, v4, v5, v6], []) [.ref a] h = xO (xck h a 0) (fun _ => xB (ev 152 [.ref a] h) (fun v h => exF ev cL_law 1171 ([v0, v1, v2, v3, v4, v5, v6], []) [v] h)) := exF_cd (i := (i_cv 0 152 0 1171)) rfl rfl
theorem eL_law_1171 {ev : xV} {v0 v1 v3 v4 v5 v6 : Option Value} {x : Nat} {st : List Value} {h : xH} : exF ev cL_law 1171 ([v0, v1, some (.ref x), v3, v4, v5, v6], []) st h = exF ev cL_law 1172 ([v0, v1, some (.ref x), v3, v4, v5, v6], []) (.ref x :: st) h := exF_j (i := (i_aload 2 1172)) rfl rfl
theorem eL_law_1172 {ev : xV} {v0 v1 v2 v3 v4 v5 v6 : Option Value} {r0 : Value} {a : Nat} {h : xH} : exF ev cL_law 1172 ([v0, v1, v2, v3, v4, v5, v6], []) [.ref a, r0] h = xO (xck h a 4) (fun _ => xB (ev 335 [.ref a] h) (fun v h => exF ev cL_law 1175 ([v0, v1, v2, v3, v4, v5, v6], []) [v, r0] h)) := exF_cd (i := (i_cv 4 335 0 1175)) rfl rfl
theorem eL_law_1175 {ev : xV} {v0 v1 v2 v3 v4 v5 v6 : Option Value} {x y : Int32} {st : List Value} {h : xH} : exF ev cL_law 1175 ([v0, v1, v2, v3, v4, v5, v6], []) (.int y :: .int x :: st) h = if x = y then exF ev cL_law 1512 ([v0, v1, v2, v3, v4, v5, v6], []) st h else exF ev cL_law 1178 ([v0, v1, v2, v3, v4, v5, v6], []) st h := exF_b (i := (i_if2 (fun x y => x = y) 1512 1178)) rfl rfl
theorem eL_law_1178 {ev : xV} {v0 v1 v2 v3 v4 v5 v6 : Option Value} {st : List Value} {h : xH} : exF ev cL_law 1178 ([v0, v1, v2, v3, v4, v5, v6], []) st h = exF ev cL_law 1179 ([v0, v1, v2, v3, v4, v5, v6], []) (.int (nI 0) :: st) h := exF_j (i := (i_const (.int (nI 0)) 1179)) rfl rfl
theorem eL_law_1179 {ev : xV} {v0 v1 v2 v3 v4 v5 v6 : Option Value} {x : Int32} {h : xH} : exF ev cL_law 1179 ([v0, v1, v2, v3, v4, v5, v6], []) [.int x] h = if x = nI 0 ∨ x = nI 1 then some (.inl (some (.int x)), h) else none := exF_z (i := (i_zret)) rfl rfl
theorem eL_law_1179b0 {ev : xV} {v0 v1 v2 v3 v4 v5 v6 : Option Value} {h : xH} : exF ev cL_law 1179 ([v0, v1, v2, v3, v4, v5, v6], []) [.int (nI 0)] h = some (.inl (some (.int (nI 0))), h) := exF_r (i := (i_zret)) rfl i_zret_0
theorem eL_law_1179b1 {ev : xV} {v0 v1 v2 v3 v4 v5 v6 : Option Value} {h : xH} : exF ev cL_law 1179 ([v0, v1, v2, v3, v4, v5, v6], []) [.int (nI 1)] h = some (.inl (some (.int (nI 1))), h) := exF_r (i := (i_zret)) rfl i_zret_1
theorem eL_law_1179b {ev : xV} {v0 v1 v2 v3 v4 v5 v6 : Option Value} {b : Bool} {h : xH} : exF ev cL_law 1179 ([v0, v1, v2, v3, v4, v5, v6], []) [.int (bI b)] h = some (.inl (some (.int (bI b))), h) := exF_r (i := (i_zret)) rfl (i_zret_b b)
theorem eL_law_1180 {ev : xV} {v0 v2 v3 v4 v5 v6 : Option Value} {x : Nat} {st : List Value} {h : xH} : exF ev cL_law 1180 ([v0, some (.ref x), v2, v3, v4, v5, v6], []) st h = exF ev cL_law 1181 ([v0, some (.ref x), v2, v3, v4, v5, v6], []) (.ref x :: st) h := exF_j (i := (i_aload 1 1181)) rfl rfl
theorem eL_law_1181 {ev : xV} {v0 v1 v2 v3 v4 v5 v6 : Option Value} {a : Nat} {h : xH} : exF ev cL_law 1181 ([v0, v1, v2, v3, v4, v5, v6], []) [.ref a] h = xO (xck h a 0) (fun _ => xB (ev 153 [.ref a] h) (fun v h => exF ev cL_law 1184 ([v0, v1, v2, v3, v4, v5, v6], []) [v] h)) := exF_cd (i := (i_cv 0 153 0 1184)) rfl rfl
theorem eL_law_1184 {ev : xV} {v0 v1 v3 v4 v5 v6 : Option Value} {x : Nat} {st : List Value} {h : xH} : exF ev cL_law 1184 ([v0, v1, some (.ref x), v3, v4, v5, v6], []) st h = exF ev cL_law 1185 ([v0, v1, some (.ref x), v3, v4, v5, v6], []) (.ref x :: st) h := exF_j (i := (i_aload 2 1185)) rfl rfl
theorem eL_law_1185 {ev : xV} {v0 v1 v2 v3 v4 v5 v6 : Option Value} {r0 : Value} {a : Nat} {h : xH} : exF ev cL_law 1185 ([v0, v1, v2, v3, v4, v5, v6], []) [.ref a, r0] h = xO (xck h a 4) (fun _ => xB (ev 330 [.ref a] h) (fun v h => exF ev cL_law 1188 ([v0, v1, v2, v3, v4, v5, v6], []) [v, r0] h)) := exF_cd (i := (i_cv 4 330 0 1188)) rfl rfl
theorem eL_law_1188 {ev : xV} {v0 v1 v2 v3 v4 v5 v6 : Option Value} {x y : Int32} {st : List Value} {h : xH} : exF ev cL_law 1188 ([v0, v1, v2, v3, v4, v5, v6], []) (.int y :: .int x :: st) h = if x = y then exF ev cL_law 1512 ([v0, v1, v2, v3, v4, v5, v6], []) st h else exF ev cL_law 1191 ([v0, v1, v2, v3, v4, v5, v6], []) st h := exF_b (i := (i_if2 (fun x y => x = y) 1512 1191)) rfl rfl
theorem eL_law_1191 {ev : xV} {v0 v1 v2 v3 v4 v5 v6 : Option Value} {st : List Value} {h : xH} : exF ev cL_law 1191 ([v0, v1, v2, v3, v4, v5, v6], []) st h = exF ev cL_law 1192 ([v0, v1, v2, v3, v4, v5, v6], []) (.int (nI 0) :: st) h := exF_j (i := (i_const (.int (nI 0)) 1192)) rfl rfl
theorem eL_law_1192 {ev : xV} {v0 v1 v2 v3 v4 v5 v6 : Option Value} {x : Int32} {h : xH} : exF ev cL_law 1192 ([v0, v1, v2, v3, v4, v5, v6], []) [.int x] h = if x = nI 0 ∨ x = nI 1 then some (.inl (some (.int x)), h) else none := exF_z (i := (i_zret)) rfl rfl
theorem eL_law_1192b0 {ev : xV} {v0 v1 v2 v3 v4 v5 v6 : Option Value} {h : xH} : exF ev cL_law 1192 ([v0, v1, v2, v3, v4, v5, v6], []) [.int (nI 0)] h = some (.inl (some (.int (nI 0))), h) := exF_r (i := (i_zret)) rfl i_zret_0
theorem eL_law_1192b1 {ev : xV} {v0 v1 v2 v3 v4 v5 v6 : Option Value} {h : xH} : exF ev cL_law 1192 ([v0, v1, v2, v3, v4, v5, v6], []) [.int (nI 1)] h = some (.inl (some (.int (nI 1))), h) := exF_r (i := (i_zret)) rfl i_zret_1
theorem eL_law_1192b {ev : xV} {v0 v1 v2 v3 v4 v5 v6 : Option Value} {b : Bool} {h : xH} : exF ev cL_law 1192 ([v0, v1, v2, v3, v4, v5, v6], []) [.int (bI b)] h = some (.inl (some (.int (bI b))), h) := exF_r (i := (i_zret)) rfl (i_zret_b b)
theorem eL_law_1193 {ev : xV} {v0 v2 v3 v4 v5 v6 : Option Value} {x : Nat} {st : List Value} {h : xH} : exF ev cL_law 1193 ([v0, some (.ref x), v2, v3, v4, v5, v6], []) st h = exF ev cL_law 1194 ([v0, some (.ref x), v2, v3, v4, v5, v6], []) (.ref x :: st) h := exF_j (i := (i_aload 1 1194)) rfl rfl
theorem eL_law_1194 {ev : xV} {v0 v1 v2 v3 v4 v5 v6 : Option Value} {a : Nat} {h : xH} : exF ev cL_law 1194 ([v0, v1, v2, v3, v4, v5, v6], []) [.ref a] h = xO (xck h a 0) (fun _ => xB (ev 154 [.ref a] h) (fun v h => exF ev cL_law 1197 ([v0, v1, v2, v3, v4, v5, v6], []) [v] h)) := exF_cd (i := (i_cv 0 154 0 1197)) rfl rfl
theorem eL_law_1197 {ev : xV} {v0 v1 v3 v4 v5 v6 : Option Value} {x : Nat} {st : List Value} {h : xH} : exF ev cL_law 1197 ([v0, v1, some (.ref x), v3, v4, v5, v6], []) st h = exF ev cL_law 1198 ([v0, v1, some (.ref x), v3, v4, v5, v6], []) (.ref x :: st) h := exF_j (i := (i_aload 2 1198)) rfl rfl
theorem eL_law_1198 {ev : xV} {v0 v1 v2 v3 v4 v5 v6 : Option Value} {r0 : Value} {a : Nat} {h : xH} : exF ev cL_law 1198 ([v0, v1, v2, v3, v4, v5, v6], []) [.ref a, r0] h = xO (xck h a 4) (fun _ => xB (ev 331 [.ref a] h) (fun v h => exF ev cL_law 1201 ([v0, v1, v2, v3, v4, v5, v6], []) [v, r0] h)) := exF_cd (i := (i_cv 4 331 0 1201)) rfl rfl
theorem eL_law_1201 {ev : xV} {v0 v1 v2 v3 v4 v5 v6 : Option Value} {x y : Int32} {st : List Value} {h : xH} : exF ev cL_law 1201 ([v0, v1, v2, v3, v4, v5, v6], []) (.int y :: .int x :: st) h = if x = y then exF ev cL_law 1512 ([v0, v1, v2, v3, v4, v5, v6], []) st h else exF ev cL_law 1204 ([v0, v1, v2, v3, v4, v5, v6], []) st h := exF_b (i := (i_if2 (fun x y => x = y) 1512 1204)) rfl rfl
theorem eL_law_1204 {ev : xV} {v0 v1 v2 v3 v4 v5 v6 : Option Value} {st : List Value} {h : xH} : exF ev cL_law 1204 ([v0, v1, v2, v3, v4, v5, v6], []) st h = exF ev cL_law 1205 ([v0, v1, v2, v3, v4, v5, v6], []) (.int (nI 0) :: st) h := exF_j (i := (i_const (.int (nI 0)) 1205)) rfl rfl
theorem eL_law_1205 {ev : xV} {v0 v1 v2 v3 v4 v5 v6 : Option Value} {x : Int32} {h : xH} : exF ev cL_law 1205 ([v0, v1, v2, v3, v4, v5, v6], []) [.int x] h = if x = nI 0 ∨ x = nI 1 then some (.inl (some (.int x)), h) else none := exF_z (i := (i_zret)) rfl rfl
theorem eL_law_1205b0 {ev : xV} {v0 v1 v2 v3 v4 v5 v6 : Option Value} {h : xH} : exF ev cL_law 1205 ([v0, v1, v2, v3, v4, v5, v6], []) [.int (nI 0)] h = some (.inl (some (.int (nI 0))), h) := exF_r (i := (i_zret)) rfl i_zret_0
theorem eL_law_1205b1 {ev : xV} {v0 v1 v2 v3 v4 v5 v6 : Option Value} {h : xH} : exF ev cL_law 1205 ([v0, v1, v2, v3, v4, v5, v6], []) [.int (nI 1)] h = some (.inl (some (.int (nI 1))), h) := exF_r (i := (i_zret)) rfl i_zret_1
theorem eL_law_1205b {ev : xV} {v0 v1 v2 v3 v4 v5 v6 : Option Value} {b : Bool} {h : xH} : exF ev cL_law 1205 ([v0, v1, v2, v3, v4, v5, v6], []) [.int (bI b)] h = some (.inl (some (.int (bI b))), h) := exF_r (i := (i_zret)) rfl (i_zret_b b)
theorem eL_law_1206 {ev : xV} {v0 v2 v3 v4 v5 v6 : Option Value} {x : Nat} {st : List Value} {h : xH} : exF ev cL_law 1206 ([v0, some (.ref x), v2, v3, v4, v5, v6], []) st h = exF ev cL_law 1207 ([v0, some (.ref x), v2, v3, v4, v5, v6], []) (.ref x :: st) h := exF_j (i := (i_aload 1 1207)) rfl rfl
theorem eL_law_1207 {ev : xV} {v1 v2 v3 v4 v5 v6 : Option Value} {x : Nat} {st : List Value} {h : xH} : exF ev cL_law 1207 ([some (.ref x), v1, v2, v3, v4, v5, v6], []) st h = exF ev cL_law 1208 ([some (.ref x), v1, v2, v3, v4, v5, v6], []) (.ref x :: st) h := exF_j (i := (i_aload 0 1208)) rfl rfl
theorem eL_law_1208 {ev : xV} {v0 v1 v2 v3 v5 v6 : Option Value} {x : Int32} {st : List Value} {h : xH} : exF ev cL_law 1208 ([v0, v1, v2, v3, some (.int x), v5, v6], []) st h = exF ev cL_law 1210 ([v0, v1, v2, v3, some (.int x), v5, v6], []) (.int x :: st) h := exF_j (i := (i_iload 4 1210)) rfl rfl
theorem eL_law_1210 {ev : xV} {v0 v1 v2 v3 v4 v5 v6 : Option Value} {st : List Value} {h : xH} : exF ev cL_law 1210 ([v0, v1, v2, v3, v4, v5, v6], []) st h = exF ev cL_law 1211 ([v0, v1, v2, v3, v4, v5, v6], []) (.int (nI 1) :: st) h := exF_j (i := (i_const (.int (nI 1)) 1211)) rfl rfl
theorem eL_law_1211 {ev : xV} {v0 v1 v2 v3 v4 v5 v6 : Option Value} {x y : Int32} {st : List Value} {h : xH} : exF ev cL_law 1211 ([v0, v1, v2, v3, v4, v5, v6], []) (.int y :: .int x :: st) h = exF ev cL_law 1212 ([v0, v1, v2, v3, v4, v5, v6], []) (.int (x + y) :: st) h := exF_j (i := (i_ii (fun x y => x + y) 1212)) rfl rfl
theorem eL_law_1212 {ev : xV} {v0 v1 v2 v3 v4 v5 v6 : Option Value} {i : Int32} {a : Nat} {st : List Value} {h : xH} : exF ev cL_law 1212 ([v0, v1, v2, v3, v4, v5, v6], []) (.int i :: .ref a :: st) h = xO (xai h 0 a i) (fun v => exF ev cL_law 1213 ([v0, v1, v2, v3, v4, v5, v6], []) (.int v :: st) h) := exF_o (i := (i_ai 0 1213)) rfl rfl
theorem eL_law_1213 {ev : xV} {v0 v1 v2 v3 v4 v5 v6 : Option Value} {a0 : Value} {a : Nat} {h : xH} : exF ev cL_law 1213 ([v0, v1, v2, v3, v4, v5, v6], []) [a0, .ref a] h = xO (xck h a 0) (fun _ => xB (ev 129 [.ref a, a0] h) (fun v h => exF ev cL_law 1216 ([v0, v1, v2, v3, v4, v5, v6], []) [v] h)) := exF_cd (i := (i_cv 0 129 1 1216)) rfl rfl
theorem eL_law_1216 {ev : xV} {v0 v1 v3 v4 v5 v6 : Option Value} {x : Nat} {st : List Value} {h : xH} : exF ev cL_law 1216 ([v0, v1, some (.ref x), v3, v4, v5, v6], []) st h = exF ev cL_law 1217 ([v0, v1, some (.ref x), v3, v4, v5, v6], []) (.ref x :: st) h := exF_j (i := (i_aload 2 1217)) rfl rfl
theorem eL_law_1217 {ev : xV} {v1 v2 v3 v4 v5 v6 : Option Value} {x : Nat} {st : List Value} {h : xH} : exF ev cL_law 1217 ([some (.ref x), v1, v2, v3, v4, v5, v6], []) st h = exF ev cL_law 1218 ([some (.ref x), v1, v2, v3, v4, v5, v6], []) (.ref x :: st) h := exF_j (i := (i_aload 0 1218)) rfl rfl
theorem eL_law_1218 {ev : xV} {v0 v1 v2 v3 v5 v6 : Option Value} {x : Int32} {st : List Value} {h : xH} : exF ev cL_law 1218 ([v0, v1, v2, v3, some (.int x), v5, v6], []) st h = exF ev cL_law 1220 ([v0, v1, v2, v3, some (.int x), v5, v6], []) (.int x :: st) h := exF_j (i := (i_iload 4 1220)) rfl rfl
theorem eL_law_1220 {ev : xV} {v0 v1 v2 v3 v4 v5 v6 : Option Value} {st : List Value} {h : xH} : exF ev cL_law 1220 ([v0, v1, v2, v3, v4, v5, v6], []) st h = exF ev cL_law 1221 ([v0, v1, v2, v3, v4, v5, v6], []) (.int (nI 1) :: st) h := exF_j (i := (i_const (.int (nI 1)) 1221)) rfl rfl
theorem eL_law_1221 {ev : xV} {v0 v1 v2 v3 v4 v5 v6 : Option Value} {x y : Int32} {st : List Value} {h : xH} : exF ev cL_law 1221 ([v0, v1, v2, v3, v4, v5, v6], []) (.int y :: .int x :: st) h = exF ev cL_law 1222 ([v0, v1, v2, v3, v4, v5, v6], []) (.int (x + y) :: st) h := exF_j (i := (i_ii (fun x y => x + y) 1222)) rfl rfl
theorem eL_law_1222 {ev : xV} {v0 v1 v2 v3 v4 v5 v6 : Option Value} {i : Int32} {a : Nat} {st : List Value} {h : xH} : exF ev cL_law 1222 ([v0, v1, v2, v3, v4, v5, v6], []) (.int i :: .ref a :: st) h = xO (xai h 0 a i) (fun v => exF ev cL_law 1223 ([v0, v1, v2, v3, v4, v5, v6], []) (.int v :: st) h) := exF_o (i := (i_ai 0 1223)) rfl rfl
theorem eL_law_1223 {ev : xV} {v0 v1 v2 v3 v4 v5 v6 : Option Value} {a0 : Value} {r0 : Value} {a : Nat} {h : xH} : exF ev cL_law 1223 ([v0, v1, v2, v3, v4, v5, v6], []) [a0, .ref a, r0] h = xO (xck h a 4) (fun _ => xB (ev 329 [.ref a, a0] h) (fun v h => exF ev cL_law 1226 ([v0, v1, v2, v3, v4, v5, v6], []) [v, r0] h)) := exF_cd (i := (i_cv 4 329 1 1226)) rfl rfl
theorem eL_law_1226 {ev : xV} {v0 v1 v2 v3 v4 v5 v6 : Option Value} {x y : Int32} {st : List Value} {h : xH} : exF ev cL_law 1226 ([v0, v1, v2, v3, v4, v5, v6], []) (.int y :: .int x :: st) h = if x = y then exF ev cL_law 1512 ([v0, v1, v2, v3, v4, v5, v6], []) st h else exF ev cL_law 1229 ([v0, v1, v2, v3, v4, v5, v6], []) st h := exF_b (i := (i_if2 (fun x y => x = y) 1512 1229)) rfl rfl
theorem eL_law_1229 {ev : xV} {v0 v1 v2 v3 v4 v5 v6 : Option Value} {st : List Value} {h : xH} : exF ev cL_law 1229 ([v0, v1, v2, v3, v4, v5, v6], []) st h = exF ev cL_law 1230 ([v0, v1, v2, v3, v4, v5, v6], []) (.int (nI 0) :: st) h := exF_j (i := (i_const (.int (nI 0)) 1230)) rfl rfl
theorem eL_law_1230 {ev : xV} {v0 v1 v2 v3 v4 v5 v6 : Option Value} {x : Int32} {h : xH} : exF ev cL_law 1230 ([v0, v1, v2, v3, v4, v5, v6], []) [.int x] h = if x = nI 0 ∨ x = nI 1 then some (.inl (some (.int x)), h) else none := exF_z (i := (i_zret)) rfl rfl
theorem eL_law_1230b0 {ev : xV} {v0 v1 v2 v3 v4 v5 v6 : Option Value} {h : xH} : exF ev cL_law 1230 ([v0, v1, v2, v3, v4, v5, v6], []) [.int (nI 0)] h = some (.inl (some (.int (nI 0))), h) := exF_r (i := (i_zret)) rfl i_zret_0
theorem eL_law_1230b1 {ev : xV} {v0 v1 v2 v3 v4 v5 v6 : Option Value} {h : xH} : exF ev cL_law 1230 ([v0, v1, v2, v3, v4, v5, v6], []) [.int (nI 1)] h = some (.inl (some (.int (nI 1))), h) := exF_r (i := (i_zret)) rfl i_zret_1
theorem eL_law_1230b {ev : xV} {v0 v1 v2 v3 v4 v5 v6 : Option Value} {b : Bool} {h : xH} : exF ev cL_law 1230 ([v0, v1, v2, v3, v4, v5, v6], []) [.int (bI b)] h = some (.inl (some (.int (bI b))), h) := exF_r (i := (i_zret)) rfl (i_zret_b b)
theorem eL_law_1231 {ev : xV} {v0 v2 v3 v4 v5 v6 : Option Value} {x : Nat} {st : List Value} {h : xH} : exF ev cL_law 1231 ([v0, some (.ref x), v2, v3, v4, v5, v6], []) st h = exF ev cL_law 1232 ([v0, some (.ref x), v2, v3, v4, v5, v6], []) (.ref x :: st) h := exF_j (i := (i_aload 1 1232)) rfl rfl
theorem eL_law_1232 {ev : xV} {v0 v1 v2 v3 v4 v5 v6 : Option Value} {a : Nat} {h : xH} : exF ev cL_law 1232 ([v0, v1, v2, v3, v4, v5, v6], []) [.ref a] h = xO (xck h a 0) (fun _ => xB (ev 127 [.ref a] h) (fun v h => exF ev cL_law 1235 ([v0, v1, v2, v3, v4, v5, v6], []) [v] h)) := exF_cd (i := (i_cv 0 127 0 1235)) rfl rfl
theorem eL_law_1235 {ev : xV} {v0 v1 v3 v4 v5 v6 : Option Value} {x : Nat} {st : List Value} {h : xH} : exF ev cL_law 1235 ([v0, v1, some (.ref x), v3, v4, v5, v6], []) st h = exF ev cL_law 1236 ([v0, v1, some (.ref x), v3, v4, v5, v6], []) (.ref x :: st) h := exF_j (i := (i_aload 2 1236)) rfl rfl
theorem eL_law_1236 {ev : xV} {v0 v1 v2 v3 v4 v5 v6 : Option Value} {r0 : Value} {a : Nat} {h : xH} : exF ev cL_law 1236 ([v0, v1, v2, v3, v4, v5, v6], []) [.ref a, r0] h = xO (xck h a 4) (fun _ => xB (ev 326 [.ref a] h) (fun v h => exF ev cL_law 1239 ([v0, v1, v2, v3, v4, v5, v6], []) [v, r0] h)) := exF_cd (i := (i_cv 4 326 0 1239)) rfl rfl
theorem eL_law_1239 {ev : xV} {v0 v1 v2 v3 v4 v5 v6 : Option Value} {x y : Int32} {st : List Value} {h : xH} : exF ev cL_law 1239 ([v0, v1, v2, v3, v4, v5, v6], []) (.int y :: .int x :: st) h = if x = y then exF ev cL_law 1512 ([v0, v1, v2, v3, v4, v5, v6], []) st h else exF ev cL_law 1242 ([v0, v1, v2, v3, v4, v5, v6], []) st h := exF_b (i := (i_if2 (fun x y => x = y) 1512 1242)) rfl rfl
theorem eL_law_1242 {ev : xV} {v0 v1 v2 v3 v4 v5 v6 : Option Value} {st : List Value} {h : xH} : exF ev cL_law 1242 ([v0, v1, v2, v3, v4, v5, v6], []) st h = exF ev cL_law 1243 ([v0, v1, v2, v3, v4, v5, v6], []) (.int (nI 0) :: st) h := exF_j (i := (i_const (.int (nI 0)) 1243)) rfl rfl
theorem eL_law_1243 {ev : xV} {v0 v1 v2 v3 v4 v5 v6 : Option Value} {x : Int32} {h : xH} : exF ev cL_law 1243 ([v0, v1, v2, v3, v4, v5, v6], []) [.int x] h = if x = nI 0 ∨ x = nI 1 then some (.inl (some (.int x)), h) else none := exF_z (i := (i_zret)) rfl rfl
theorem eL_law_1243b0 {ev : xV} {v0 v1 v2 v3 v4 v5 v6 : Option Value} {h : xH} : exF ev cL_law 1243 ([v0, v1, v2, v3, v4, v5, v6], []) [.int (nI 0)] h = some (.inl (some (.int (nI 0))), h) := exF_r (i := (i_zret)) rfl i_zret_0
theorem eL_law_1243b1 {ev : xV} {v0 v1 v2 v3 v4 v5 v6 : Option Value} {h : xH} : exF ev cL_law 1243 ([v0, v1, v2, v3, v4, v5, v6], []) [.int (nI 1)] h = some (.inl (some (.int (nI 1))), h) := exF_r (i := (i_zret)) rfl i_zret_1
theorem eL_law_1243b {ev : xV} {v0 v1 v2 v3 v4 v5 v6 : Option Value} {b : Bool} {h : xH} : exF ev cL_law 1243 ([v0, v1, v2, v3, v4, v5, v6], []) [.int (bI b)] h = some (.inl (some (.int (bI b))), h) := exF_r (i := (i_zret)) rfl (i_zret_b b)
theorem eL_law_1244 {ev : xV} {v0 v2 v3 v4 v5 v6 : Option Value} {x : Nat} {st : List Value} {h : xH} : exF ev cL_law 1244 ([v0, some (.ref x), v2, v3, v4, v5, v6], []) st h = exF ev cL_law 1245 ([v0, some (.ref x), v2, v3, v4, v5, v6], []) (.ref x :: st) h := exF_j (i := (i_aload 1 1245)) rfl rfl
theorem eL_law_1245 {ev : xV} {v1 v2 v3 v4 v5 v6 : Option Value} {x : Nat} {st : List Value} {h : xH} : exF ev cL_law 1245 ([some (.ref x), v1, v2, v3, v4, v5, v6], []) st h = exF ev cL_law 1246 ([some (.ref x), v1, v2, v3, v4, v5, v6], []) (.ref x :: st) h := exF_j (i := (i_aload 0 1246)) rfl rfl
theorem eL_law_1246 {ev : xV} {v0 v1 v2 v3 v5 v6 : Option Value} {x : Int32} {st : List Value} {h : xH} : exF ev cL_law 1246 ([v0, v1, v2, v3, some (.int x), v5, v6], []) st h = exF ev cL_law 1248 ([v0, v1, v2, v3, some (.int x), v5, v6], []) (.int x :: st) h := exF_j (i := (i_iload 4 1248)) rfl rfl
theorem eL_law_1248 {ev : xV} {v0 v1 v2 v3 v4 v5 v6 : Option Value} {st : List Value} {h : xH} : exF ev cL_law 1248 ([v0, v1, v2, v3, v4, v5, v6], []) st h = exF ev cL_law 1249 ([v0, v1, v2, v3, v4, v5, v6], []) (.int (nI 1) :: st) h := exF_j (i := (i_const (.int (nI 1)) 1249)) rfl rfl
theorem eL_law_1249 {ev : xV} {v0 v1 v2 v3 v4 v5 v6 : Option Value} {x y : Int32} {st : List Value} {h : xH} : exF ev cL_law 1249 ([v0, v1, v2, v3, v4, v5, v6], []) (.int y :: .int x :: st) h = exF ev cL_law 1250 ([v0, v1, v2, v3, v4, v5, v6], []) (.int (x + y) :: st) h := exF_j (i := (i_ii (fun x y => x + y) 1250)) rfl rfl
theorem eL_law_1250 {ev : xV} {v0 v1 v2 v3 v4 v5 v6 : Option Value} {i : Int32} {a : Nat} {st : List Value} {h : xH} : exF ev cL_law 1250 ([v0, v1, v2, v3, v4, v5, v6], []) (.int i :: .ref a :: st) h = xO (xai h 0 a i) (fun v => exF ev cL_law 1251 ([v0, v1, v2, v3, v4, v5, v6], []) (.int v :: st) h) := exF_o (i := (i_ai 0 1251)) rfl rfl
theorem eL_law_1251 {ev : xV} {v1 v2 v3 v4 v5 v6 : Option Value} {x : Nat} {st : List Value} {h : xH} : exF ev cL_law 1251 ([some (.ref x), v1, v2, v3, v4, v5, v6], []) st h = exF ev cL_law 1252 ([some (.ref x), v1, v2, v3, v4, v5, v6], []) (.ref x :: st) h := exF_j (i := (i_aload 0 1252)) rfl rfl
theorem eL_law_1252 {ev : xV} {v0 v1 v2 v3 v5 v6 : Option Value} {x : Int32} {st : List Value} {h : xH} : exF ev cL_law 1252 ([v0, v1, v2, v3, some (.int x), v5, v6], []) st h = exF ev cL_law 1254 ([v0, v1, v2, v3, some (.int x), v5, v6], []) (.int x :: st) h := exF_j (i := (i_iload 4 1254)) rfl rfl
theorem eL_law_1254 {ev : xV} {v0 v1 v2 v3 v4 v5 v6 : Option Value} {st : List Value} {h : xH} : exF ev cL_law 1254 ([v0, v1, v2, v3, v4, v5, v6], []) st h = exF ev cL_law 1255 ([v0, v1, v2, v3, v4, v5, v6], []) (.int (nI 2) :: st) h := exF_j (i := (i_const (.int (nI 2)) 1255)) rfl rfl
theorem eL_law_1255 {ev : xV} {v0 v1 v2 v3 v4 v5 v6 : Option Value} {x y : Int32} {st : List Value} {h : xH} : exF ev cL_law 1255 ([v0, v1, v2, v3, v4, v5, v6], []) (.int y :: .int x :: st) h = exF ev cL_law 1256 ([v0, v1, v2, v3, v4, v5, v6], []) (.int (x + y) :: st) h := exF_j (i := (i_ii (fun x y => x + y) 1256)) rfl rfl
theorem eL_law_1256 {ev : xV} {v0 v1 v2 v3 v4 v5 v6 : Option Value} {i : Int32} {a : Nat} {st : List Value} {h : xH} : exF ev cL_law 1256 ([v0, v1, v2, v3, v4, v5, v6], []) (.int i :: .ref a :: st) h = xO (xai h 0 a i) (fun v => exF ev cL_law 1257 ([v0, v1, v2, v3, v4, v5, v6], []) (.int v :: st) h) := exF_o (i := (i_ai 0 1257)) rfl rfl
theorem eL_law_1257 {ev : xV} {v1 v2 v3 v4 v5 v6 : Option Value} {x : Nat} {st : List Value} {h : xH} : exF ev cL_law 1257 ([some (.ref x), v1, v2, v3, v4, v5, v6], []) st h = exF ev cL_law 1258 ([some (.ref x), v1, v2, v3, v4, v5, v6], []) (.ref x :: st) h := exF_j (i := (i_aload 0 1258)) rfl rfl
theorem eL_law_1258 {ev : xV} {v0 v1 v2 v3 v5 v6 : Option Value} {x : Int32} {st : List Value} {h : xH} : exF ev cL_law 1258 ([v0, v1, v2, v3, some (.int x), v5, v6], []) st h = exF ev cL_law 1260 ([v0, v1, v2, v3, some (.int x), v5, v6], []) (.int x :: st) h := exF_j (i := (i_iload 4 1260)) rfl rfl
theorem eL_law_1260 {ev : xV} {v0 v1 v2 v3 v4 v5 v6 : Option Value} {st : List Value} {h : xH} : exF ev cL_law 1260 ([v0, v1, v2, v3, v4, v5, v6], []) st h = exF ev cL_law 1261 ([v0, v1, v2, v3, v4, v5, v6], []) (.int (nI 3) :: st) h := exF_j (i := (i_const (.int (nI 3)) 1261)) rfl rfl
theorem eL_law_1261 {ev : xV} {v0 v1 v2 v3 v4 v5 v6 : Option Value} {x y : Int32} {st : List Value} {h : xH} : exF ev cL_law 1261 ([v0, v1, v2, v3, v4, v5, v6], []) (.int y :: .int x :: st) h = exF ev cL_law 1262 ([v0, v1, v2, v3, v4, v5, v6], []) (.int (x + y) :: st) h := exF_j (i := (i_ii (fun x y => x + y) 1262)) rfl rfl
theorem eL_law_1262 {ev : xV} {v0 v1 v2 v3 v4 v5 v6 : Option Value} {i : Int32} {a : Nat} {st : List Value} {h : xH} : exF ev cL_law 1262 ([v0, v1, v2, v3, v4, v5, v6], []) (.int i :: .ref a :: st) h = xO (xai h 0 a i) (fun v => exF ev cL_law 1263 ([v0, v1, v2, v3, v4, v5, v6], []) (.int v :: st) h) := exF_o (i := (i_ai 0 1263)) rfl rfl
theorem eL_law_1263 {ev : xV} {v0 v1 v2 v3 v4 v5 v6 : Option Value} {a0 : Value} {a1 : Value} {a2 : Value} {a : Nat} {h : xH} : exF ev cL_law 1263 ([v0, v1, v2, v3, v4, v5, v6], []) [a2, a1, a0, .ref a] h = xO (xck h a 0) (fun _ => xB (ev 156 [.ref a, a0, a1, a2] h) (fun v h => exF ev cL_law 1266 ([v0, v1, v2, v3, v4, v5, v6], []) [v] h)) := exF_cd (i := (i_cv 0 156 3 1266)) rfl rfl
theorem eL_law_1266 {ev : xV} {v0 v1 v3 v4 v5 v6 : Option Value} {x : Nat} {st : List Value} {h : xH} : exF ev cL_law 1266 ([v0, v1, some (.ref x), v3, v4, v5, v6], []) st h = exF ev cL_law 1267 ([v0, v1, some (.ref x), v3, v4, v5, v6], []) (.ref x :: st) h := exF_j (i := (i_aload 2 1267)) rfl rfl
theorem eL_law_1267 {ev : xV} {v1 v2 v3 v4 v5 v6 : Option Value} {x : Nat} {st : List Value} {h : xH} : exF ev cL_law 1267 ([some (.ref x), v1, v2, v3, v4, v5, v6], []) st h = exF ev cL_law 1268 ([some (.ref x), v1, v2, v3, v4, v5, v6], []) (.ref x :: st) h := exF_j (i := (i_aload 0 1268)) rfl rfl
theorem eL_law_1268 {ev : xV} {v0 v1 v2 v3 v5 v6 : Option Value} {x : Int32} {st : List Value} {h : xH} : exF ev cL_law 1268 ([v0, v1, v2, v3, some (.int x), v5, v6], []) st h = exF ev cL_law 1270 ([v0, v1, v2, v3, some (.int x), v5, v6], []) (.int x :: st) h := exF_j (i := (i_iload 4 1270)) rfl rfl
theorem eL_law_1270 {ev : xV} {v0 v1 v2 v3 v4 v5 v6 : Option Value} {st : List Value} {h : xH} : exF ev cL_law 1270 ([v0, v1, v2, v3, v4, v5, v6], []) st h = exF ev cL_law 1271 ([v0, v1, v2, v3, v4, v5, v6], []) (.int (nI 1) :: st) h := exF_j (i := (i_const (.int (nI 1)) 1271)) rfl rfl
theorem eL_law_1271 {ev : xV} {v0 v1 v2 v3 v4 v5 v6 : Option Value} {x y : Int32} {st : List Value} {h : xH} : exF ev cL_law 1271 ([v0, v1, v2, v3, v4, v5, v6], []) (.int y :: .int x :: st) h = exF ev cL_law 1272 ([v0, v1, v2, v3, v4, v5, v6], []) (.int (x + y) :: st) h := exF_j (i := (i_ii (fun x y => x + y) 1272)) rfl rfl
theorem eL_law_1272 {ev : xV} {v0 v1 v2 v3 v4 v5 v6 : Option Value} {i : Int32} {a : Nat} {st : List Value} {h : xH} : exF ev cL_law 1272 ([v0, v1, v2, v3, v4, v5, v6], []) (.int i :: .ref a :: st) h = xO (xai h 0 a i) (fun v => exF ev cL_law 1273 ([v0, v1, v2, v3, v4, v5, v6], []) (.int v :: st) h) := exF_o (i := (i_ai 0 1273)) rfl rfl
theorem eL_law_1273 {ev : xV} {v1 v2 v3 v4 v5 v6 : Option Value} {x : Nat} {st : List Value} {h : xH} : exF ev cL_law 1273 ([some (.ref x), v1, v2, v3, v4, v5, v6], []) st h = exF ev cL_law 1274 ([some (.ref x), v1, v2, v3, v4, v5, v6], []) (.ref x :: st) h := exF_j (i := (i_aload 0 1274)) rfl rfl
theorem eL_law_1274 {ev : xV} {v0 v1 v2 v3 v5 v6 : Option Value} {x : Int32} {st : List Value} {h : xH} : exF ev cL_law 1274 ([v0, v1, v2, v3, some (.int x), v5, v6], []) st h = exF ev cL_law 1276 ([v0, v1, v2, v3, some (.int x), v5, v6], []) (.int x :: st) h := exF_j (i := (i_iload 4 1276)) rfl rfl
theorem eL_law_1276 {ev : xV} {v0 v1 v2 v3 v4 v5 v6 : Option Value} {st : List Value} {h : xH} : exF ev cL_law 1276 ([v0, v1, v2, v3, v4, v5, v6], []) st h = exF ev cL_law 1277 ([v0, v1, v2, v3, v4, v5, v6], []) (.int (nI 2) :: st) h := exF_j (i := (i_const (.int (nI 2)) 1277)) rfl rfl
theorem eL_law_1277 {ev : xV} {v0 v1 v2 v3 v4 v5 v6 : Option Value} {x y : Int32} {st : List Value} {h : xH} : exF ev cL_law 1277 ([v0, v1, v2, v3, v4, v5, v6], []) (.int y :: .int x :: st) h = exF ev cL_law 1278 ([v0, v1, v2, v3, v4, v5, v6], []) (.int (x + y) :: st) h := exF_j (i := (i_ii (fun x y => x + y) 1278)) rfl rfl
theorem eL_law_1278 {ev : xV} {v0 v1 v2 v3 v4 v5 v6 : Option Value} {i : Int32} {a : Nat} {st : List Value} {h : xH} : exF ev cL_law 1278 ([v0, v1, v2, v3, v4, v5, v6], []) (.int i :: .ref a :: st) h = xO (xai h 0 a i) (fun v => exF ev cL_law 1279 ([v0, v1, v2, v3, v4, v5, v6], []) (.int v :: st) h) := exF_o (i := (i_ai 0 1279)) rfl rfl
theorem eL_law_1279 {ev : xV} {v1 v2 v3 v4 v5 v6 : Option Value} {x : Nat} {st : List Value} {h : xH} : exF ev cL_law 1279 ([some (.ref x), v1, v2, v3, v4, v5, v6], []) st h = exF ev cL_law 1280 ([some (.ref x), v1, v2, v3, v4, v5, v6], []) (.ref x :: st) h := exF_j (i := (i_aload 0 1280)) rfl rfl
theorem eL_law_1280 {ev : xV} {v0 v1 v2 v3 v5 v6 : Option Value} {x : Int32} {st : List Value} {h : xH} : exF ev cL_law 1280 ([v0, v1, v2, v3, some (.int x), v5, v6], []) st h = exF ev cL_law 1282 ([v0, v1, v2, v3, some (.int x), v5, v6], []) (.int x :: st) h := exF_j (i := (i_iload 4 1282)) rfl rfl
theorem eL_law_1282 {ev : xV} {v0 v1 v2 v3 v4 v5 v6 : Option Value} {st : List Value} {h : xH} : exF ev cL_law 1282 ([v0, v1, v2, v3, v4, v5, v6], []) st h = exF ev cL_law 1283 ([v0, v1, v2, v3, v4, v5, v6], []) (.int (nI 3) :: st) h := exF_j (i := (i_const (.int (nI 3)) 1283)) rfl rfl
theorem eL_law_1283 {ev : xV} {v0 v1 v2 v3 v4 v5 v6 : Option Value} {x y : Int32} {st : List Value} {h : xH} : exF ev cL_law 1283 ([v0, v1, v2, v3, v4, v5, v6], []) (.int y :: .int x :: st) h = exF ev cL_law 1284 ([v0, v1, v2, v3, v4, v5, v6], []) (.int (x + y) :: st) h := exF_j (i := (i_ii (fun x y => x + y) 1284)) rfl rfl
theorem eL_law_1284 {ev : xV} {v0 v1 v2 v3 v4 v5 v6 : Option Value} {i : Int32} {a : Nat} {st : List Value} {h : xH} : exF ev cL_law 1284 ([v0, v1, v2, v3, v4, v5, v6], []) (.int i :: .ref a :: st) h = xO (xai h 0 a i) (fun v => exF ev cL_law 1285 ([v0, v1, v2, v3, v4, v5, v6], []) (.int v :: st) h) := exF_o (i := (i_ai 0 1285)) rfl rfl
theorem eL_law_1285 {ev : xV} {v0 v1 v2 v3 v4 v5 v6 : Option Value} {a0 : Value} {a1 : Value} {a2 : Value} {r0 : Value} {a : Nat} {h : xH} : exF ev cL_law 1285 ([v0, v1, v2, v3, v4, v5, v6], []) [a2, a1, a0, .ref a, r0] h = xO (xck h a 4) (fun _ => xB (ev 357 [.ref a, a0, a1, a2] h) (fun v h => exF ev cL_law 1288 ([v0, v1, v2, v3, v4, v5, v6], []) [v, r0] h)) := exF_cd (i := (i_cv 4 357 3 1288)) rfl rfl
theorem eL_law_1288 {ev : xV} {v0 v1 v2 v3 v4 v5 v6 : Option Value} {x y : Int32} {st : List Value} {h : xH} : exF ev cL_law 1288 ([v0, v1, v2, v3, v4, v5, v6], []) (.int y :: .int x :: st) h = if x = y then exF ev cL_law 1512 ([v0, v1, v2, v3, v4, v5, v6], []) st h else exF ev cL_law 1291 ([v0, v1, v2, v3, v4, v5, v6], []) st h := exF_b (i := (i_if2 (fun x y => x = y) 1512 1291)) rfl rfl
theorem eL_law_1291 {ev : xV} {v0 v1 v2 v3 v4 v5 v6 : Option Value} {st : List Value} {h : xH} : exF ev cL_law 1291 ([v0, v1, v2, v3, v4, v5, v6], []) st h = exF ev cL_law 1292 ([v0, v1, v2, v3, v4, v5, v6], []) (.int (nI 0) :: st) h := exF_j (i := (i_const (.int (nI 0)) 1292)) rfl rfl
theorem eL_law_1292 {ev : xV} {v0 v1 v2 v3 v4 v5 v6 : Option Value} {x : Int32} {h : xH} : exF ev cL_law 1292 ([v0, v1, v2, v3, v4, v5, v6], []) [.int x] h = if x = nI 0 ∨ x = nI 1 then some (.inl (some (.int x)), h) else none := exF_z (i := (i_zret)) rfl rfl
theorem eL_law_1292b0 {ev : xV} {v0 v1 v2 v3 v4 v5 v6 : Option Value} {h : xH} : exF ev cL_law 1292 ([v0, v1, v2, v3, v4, v5, v6], []) [.int (nI 0)] h = some (.inl (some (.int (nI 0))), h) := exF_r (i := (i_zret)) rfl i_zret_0
theorem eL_law_1292b1 {ev : xV} {v0 v1 v2 v3 v4 v5 v6 : Option Value} {h : xH} : exF ev cL_law 1292 ([v0, v1, v2, v3, v4, v5, v6], []) [.int (nI 1)] h = some (.inl (some (.int (nI 1))), h) := exF_r (i := (i_zret)) rfl i_zret_1
theorem eL_law_1292b {ev : xV} {v0 v1 v2 v3 v4 v5 v6 : Option Value} {b : Bool} {h : xH} : exF ev cL_law 1292 ([v0, v1, v2, v3, v4, v5, v6], []) [.int (bI b)] h = some (.inl (some (.int (bI b))), h) := exF_r (i := (i_zret)) rfl (i_zret_b b)
theorem eL_law_1293 {ev : xV} {v0 v2 v3 v4 v5 v6 : Option Value} {x : Nat} {st : List Value} {h : xH} : exF ev cL_law 1293 ([v0, some (.ref x), v2, v3, v4, v5, v6], []) st h = exF ev cL_law 1294 ([v0, some (.ref x), v2, v3, v4, v5, v6], []) (.ref x :: st) h := exF_j (i := (i_aload 1 1294)) rfl rfl
theorem eL_law_1294 {ev : xV} {v1 v2 v3 v4 v5 v6 : Option Value} {x : Nat} {st : List Value} {h : xH} : exF ev cL_law 1294 ([some (.ref x), v1, v2, v3, v4, v5, v6], []) st h = exF ev cL_law 1295 ([some (.ref x), v1, v2, v3, v4, v5, v6], []) (.ref x :: st) h := exF_j (i := (i_aload 0 1295)) rfl rfl
theorem eL_law_1295 {ev : xV} {v0 v1 v2 v3 v5 v6 : Option Value} {x : Int32} {st : List Value} {h : xH} : exF ev cL_law 1295 ([v0, v1, v2, v3, some (.int x), v5, v6], []) st h = exF ev cL_law 1297 ([v0, v1, v2, v3, some (.int x), v5, v6], []) (.int x :: st) h := exF_j (i := (i_iload 4 1297)) rfl rfl
theorem eL_law_1297 {ev : xV} {v0 v1 v2 v3 v4 v5 v6 : Option Value} {st : List Value} {h : xH} : exF ev cL_law 1297 ([v0, v1, v2, v3, v4, v5, v6], []) st h = exF ev cL_law 1298 ([v0, v1, v2, v3, v4, v5, v6], []) (.int (nI 1) :: st) h := exF_j (i := (i_const (.int (nI 1)) 1298)) rfl rfl
theorem eL_law_1298 {ev : xV} {v0 v1 v2 v3 v4 v5 v6 : Option Value} {x y : Int32} {st : List Value} {h : xH} : exF ev cL_law 1298 ([v0, v1, v2, v3, v4, v5, v6], []) (.int y :: .int x :: st) h = exF ev cL_law 1299 ([v0, v1, v2, v3, v4, v5, v6], []) (.int (x + y) :: st) h := exF_j (i := (i_ii (fun x y => x + y) 1299)) rfl rfl
theorem eL_law_1299 {ev : xV} {v0 v1 v2 v3 v4 v5 v6 : Option Value} {i : Int32} {a : Nat} {st : List Value} {h : xH} : exF ev cL_law 1299 ([v0, v1, v2, v3, v4, v5, v6], []) (.int i :: .ref a :: st) h = xO (xai h 0 a i) (fun v => exF ev cL_law 1300 ([v0, v1, v2, v3, v4, v5, v6], []) (.int v :: st) h) := exF_o (i := (i_ai 0 1300)) rfl rfl
theorem eL_law_1300 {ev : xV} {v1 v2 v3 v4 v5 v6 : Option Value} {x : Nat} {st : List Value} {h : xH} : exF ev cL_law 1300 ([some (.ref x), v1, v2, v3, v4, v5, v6], []) st h = exF ev cL_law 1301 ([some (.ref x), v1, v2, v3, v4, v5, v6], []) (.ref x :: st) h := exF_j (i := (i_aload 0 1301)) rfl rfl
theorem eL_law_1301 {ev : xV} {v0 v1 v2 v3 v5 v6 : Option Value} {x : Int32} {st : List Value} {h : xH} : exF ev cL_law 1301 ([v0, v1, v2, v3, some (.int x), v5, v6], []) st h = exF ev cL_law 1303 ([v0, v1, v2, v3, some (.int x), v5, v6], []) (.int x :: st) h := exF_j (i := (i_iload 4 1303)) rfl rfl
theorem eL_law_1303 {ev : xV} {v0 v1 v2 v3 v4 v5 v6 : Option Value} {st : List Value} {h : xH} : exF ev cL_law 1303 ([v0, v1, v2, v3, v4, v5, v6], []) st h = exF ev cL_law 1304 ([v0, v1, v2, v3, v4, v5, v6], []) (.int (nI 2) :: st) h := exF_j (i := (i_const (.int (nI 2)) 1304)) rfl rfl
theorem eL_law_1304 {ev : xV} {v0 v1 v2 v3 v4 v5 v6 : Option Value} {x y : Int32} {st : List Value} {h : xH} : exF ev cL_law 1304 ([v0, v1, v2, v3, v4, v5, v6], []) (.int y :: .int x :: st) h = exF ev cL_law 1305 ([v0, v1, v2, v3, v4, v5, v6], []) (.int (x + y) :: st) h := exF_j (i := (i_ii (fun x y => x + y) 1305)) rfl rfl
theorem eL_law_1305 {ev : xV} {v0 v1 v2 v3 v4 v5 v6 : Option Value} {i : Int32} {a : Nat} {st : List Value} {h : xH} : exF ev cL_law 1305 ([v0, v1, v2, v3, v4, v5, v6], []) (.int i :: .ref a :: st) h = xO (xai h 0 a i) (fun v => exF ev cL_law 1306 ([v0, v1, v2, v3, v4, v5, v6], []) (.int v :: st) h) := exF_o (i := (i_ai 0 1306)) rfl rfl
theorem eL_law_1306 {ev : xV} {v1 v2 v3 v4 v5 v6 : Option Value} {x : Nat} {st : List Value} {h : xH} : exF ev cL_law 1306 ([some (.ref x), v1, v2, v3, v4, v5, v6], []) st h = exF ev cL_law 1307 ([some (.ref x), v1, v2, v3, v4, v5, v6], []) (.ref x :: st) h := exF_j (i := (i_aload 0 1307)) rfl rfl
theorem eL_law_1307 {ev : xV} {v0 v1 v2 v3 v5 v6 : Option Value} {x : Int32} {st : List Value} {h : xH} : exF ev cL_law 1307 ([v0, v1, v2, v3, some (.int x), v5, v6], []) st h = exF ev cL_law 1309 ([v0, v1, v2, v3, some (.int x), v5, v6], []) (.int x :: st) h := exF_j (i := (i_iload 4 1309)) rfl rfl
theorem eL_law_1309 {ev : xV} {v0 v1 v2 v3 v4 v5 v6 : Option Value} {st : List Value} {h : xH} : exF ev cL_law 1309 ([v0, v1, v2, v3, v4, v5, v6], []) st h = exF ev cL_law 1310 ([v0, v1, v2, v3, v4, v5, v6], []) (.int (nI 3) :: st) h := exF_j (i := (i_const (.int (nI 3)) 1310)) rfl rfl
theorem eL_law_1310 {ev : xV} {v0 v1 v2 v3 v4 v5 v6 : Option Value} {x y : Int32} {st : List Value} {h : xH} : exF ev cL_law 1310 ([v0, v1, v2, v3, v4, v5, v6], []) (.int y :: .int x :: st) h = exF ev cL_law 1311 ([v0, v1, v2, v3, v4, v5, v6], []) (.int (x + y) :: st) h := exF_j (i := (i_ii (fun x y => x + y) 1311)) rfl rfl
theorem eL_law_1311 {ev : xV} {v0 v1 v2 v3 v4 v5 v6 : Option Value} {i : Int32} {a : Nat} {st : List Value} {h : xH} : exF ev cL_law 1311 ([v0, v1, v2, v3, v4, v5, v6], []) (.int i :: .ref a :: st) h = xO (xai h 0 a i) (fun v => exF ev cL_law 1312 ([v0, v1, v2, v3, v4, v5, v6], []) (.int v :: st) h) := exF_o (i := (i_ai 0 1312)) rfl rfl
theorem eL_law_1312 {ev : xV} {v1 v2 v3 v4 v5 v6 : Option Value} {x : Nat} {st : List Value} {h : xH} : exF ev cL_law 1312 ([some (.ref x), v1, v2, v3, v4, v5, v6], []) st h = exF ev cL_law 1313 ([some (.ref x), v1, v2, v3, v4, v5, v6], []) (.ref x :: st) h := exF_j (i := (i_aload 0 1313)) rfl rfl
theorem eL_law_1313 {ev : xV} {v0 v1 v2 v3 v5 v6 : Option Value} {x : Int32} {st : List Value} {h : xH} : exF ev cL_law 1313 ([v0, v1, v2, v3, some (.int x), v5, v6], []) st h = exF ev cL_law 1315 ([v0, v1, v2, v3, some (.int x), v5, v6], []) (.int x :: st) h := exF_j (i := (i_iload 4 1315)) rfl rfl
theorem eL_law_1315 {ev : xV} {v0 v1 v2 v3 v4 v5 v6 : Option Value} {st : List Value} {h : xH} : exF ev cL_law 1315 ([v0, v1, v2, v3, v4, v5, v6], []) st h = exF ev cL_law 1316 ([v0, v1, v2, v3, v4, v5, v6], []) (.int (nI 4) :: st) h := exF_j (i := (i_const (.int (nI 4)) 1316)) rfl rfl
theorem eL_law_1316 {ev : xV} {v0 v1 v2 v3 v4 v5 v6 : Option Value} {x y : Int32} {st : List Value} {h : xH} : exF ev cL_law 1316 ([v0, v1, v2, v3, v4, v5, v6], []) (.int y :: .int x :: st) h = exF ev cL_law 1317 ([v0, v1, v2, v3, v4, v5, v6], []) (.int (x + y) :: st) h := exF_j (i := (i_ii (fun x y => x + y) 1317)) rfl rfl
theorem eL_law_1317 {ev : xV} {v0 v1 v2 v3 v4 v5 v6 : Option Value} {i : Int32} {a : Nat} {st : List Value} {h : xH} : exF ev cL_law 1317 ([v0, v1, v2, v3, v4, v5, v6], []) (.int i :: .ref a :: st) h = xO (xai h 0 a i) (fun v => exF ev cL_law 1318 ([v0, v1, v2, v3, v4, v5, v6], []) (.int v :: st) h) := exF_o (i := (i_ai 0 1318)) rfl rfl
theorem eL_law_1318 {ev : xV} {v0 v1 v2 v4 v5 v6 : Option Value} {x : Nat} {st : List Value} {h : xH} : exF ev cL_law 1318 ([v0, v1, v2, some (.ref x), v4, v5, v6], []) st h = exF ev cL_law 1319 ([v0, v1, v2, some (.ref x), v4, v5, v6], []) (.ref x :: st) h := exF_j (i := (i_aload 3 1319)) rfl rfl
theorem eL_law_1319 {ev : xV} {v0 v1 v2 v3 v4 v5 v6 : Option Value} {a0 : Value} {a1 : Value} {a2 : Value} {a3 : Value} {a4 : Value} {a5 : Value} {h : xH} : exF ev cL_law 1319 ([v0, v1, v2, v3, v4, v5, v6], []) [a5, a4, a3, a2, a1, a0] h = xB (ev 86 [a0, a1, a2, a3, a4, a5] h) (fun v h => exF ev cL_law 1322 ([v0, v1, v2, v3, v4, v5, v6], []) [v] h) := exF_c (i := (i_cs 86 6 1322)) rfl rfl
theorem eL_law_1322 {ev : xV} {v0 v1 v2 v3 v4 v5 v6 : Option Value} {x : Int32} {st : List Value} {h : xH} : exF ev cL_law 1322 ([v0, v1, v2, v3, v4, v5, v6], []) (.int x :: st) h = exF ev cL_law 1324 ([v0, v1, v2, v3, v4, some (.int x), v6], []) st h := exF_j (i := (i_istore 5 1324)) rfl rfl
theorem eL_law_1324 {ev : xV} {v0 v1 v3 v4 v5 v6 : Option Value} {x : Nat} {st : List Value} {h : xH} : exF ev cL_law 1324 ([v0, v1, some (.ref x), v3, v4, v5, v6], []) st h = exF ev cL_law 1325 ([v0, v1, some (.ref x), v3, v4, v5, v6], []) (.ref x :: st) h := exF_j (i := (i_aload 2 1325)) rfl rfl
theorem eL_law_1325 {ev : xV} {v1 v2 v3 v4 v5 v6 : Option Value} {x : Nat} {st : List Value} {h : xH} : exF ev cL_law 1325 ([some (.ref x), v1, v2, v3, v4, v5, v6], []) st h = exF ev cL_law 1326 ([some (.ref x), v1, v2, v3, v4, v5, v6], []) (.ref x :: st) h := exF_j (i := (i_aload 0 1326)) rfl rfl
theorem eL_law_1326 {ev : xV} {v0 v1 v2 v3 v5 v6 : Option Value} {x : Int32} {st : List Value} {h : xH} : exF ev cL_law 1326 ([v0, v1, v2, v3, some (.int x), v5, v6], []) st h = exF ev cL_law 1328 ([v0, v1, v2, v3, some (.int x), v5, v6], []) (.int x :: st) h := exF_j (i := (i_iload 4 1328)) rfl rfl
theorem eL_law_1328 {ev : xV} {v0 v1 v2 v3 v4 v5 v6 : Option Value} {st : List Value} {h : xH} : exF ev cL_law 1328 ([v0, v1, v2, v3, v4, v5, v6], []) st h = exF ev cL_law 1329 ([v0, v1, v2, v3, v4, v5, v6], []) (.int (nI 1) :: st) h := exF_j (i := (i_const (.int (nI 1)) 1329)) rfl rfl
theorem eL_law_1329 {ev : xV} {v0 v1 v2 v3 v4 v5 v6 : Option Value} {x y : Int32} {st : List Value} {h : xH} : exF ev cL_law 1329 ([v0, v1, v2, v3, v4, v5, v6], []) (.int y :: .int x :: st) h = exF ev cL_law 1330 ([v0, v1, v2, v3, v4, v5, v6], []) (.int (x + y) :: st) h := exF_j (i := (i_ii (fun x y => x + y) 1330)) rfl rfl
theorem eL_law_1330 {ev : xV} {v0 v1 v2 v3 v4 v5 v6 : Option Value} {i : Int32} {a : Nat} {st : List Value} {h : xH} : exF ev cL_law 1330 ([v0, v1, v2, v3, v4, v5, v6], []) (.int i :: .ref a :: st) h = xO (xai h 0 a i) (fun v => exF ev cL_law 1331 ([v0, v1, v2, v3, v4, v5, v6], []) (.int v :: st) h) := exF_o (i := (i_ai 0 1331)) rfl rfl
theorem eL_law_1331 {ev : xV} {v1 v2 v3 v4 v5 v6 : Option Value} {x : Nat} {st : List Value} {h : xH} : exF ev cL_law 1331 ([some (.ref x), v1, v2, v3, v4, v5, v6], []) st h = exF ev cL_law 1332 ([some (.ref x), v1, v2, v3, v4, v5, v6], []) (.ref x :: st) h := exF_j (i := (i_aload 0 1332)) rfl rfl
theorem eL_law_1332 {ev : xV} {v0 v1 v2 v3 v5 v6 : Option Value} {x : Int32} {st : List Value} {h : xH} : exF ev cL_law 1332 ([v0, v1, v2, v3, some (.int x), v5, v6], []) st h = exF ev cL_law 1334 ([v0, v1, v2, v3, some (.int x), v5, v6], []) (.int x :: st) h := exF_j (i := (i_iload 4 1334)) rfl rfl
theorem eL_law_1334 {ev : xV} {v0 v1 v2 v3 v4 v5 v6 : Option Value} {st : List Value} {h : xH} : exF ev cL_law 1334 ([v0, v1, v2, v3, v4, v5, v6], []) st h = exF ev cL_law 1335 ([v0, v1, v2, v3, v4, v5, v6], []) (.int (nI 2) :: st) h := exF_j (i := (i_const (.int (nI 2)) 1335)) rfl rfl
theorem eL_law_1335 {ev : xV} {v0 v1 v2 v3 v4 v5 v6 : Option Value} {x y : Int32} {st : List Value} {h : xH} : exF ev cL_law 1335 ([v0, v1, v2, v3, v4, v5, v6], []) (.int y :: .int x :: st) h = exF ev cL_law 1336 ([v0, v1, v2, v3, v4, v5, v6], []) (.int (x + y) :: st) h := exF_j (i := (i_ii (fun x y => x + y) 1336)) rfl rfl
theorem eL_law_1336 {ev : xV} {v0 v1 v2 v3 v4 v5 v6 : Option Value} {i : Int32} {a : Nat} {st : List Value} {h : xH} : exF ev cL_law 1336 ([v0, v1, v2, v3, v4, v5, v6], []) (.int i :: .ref a :: st) h = xO (xai h 0 a i) (fun v => exF ev cL_law 1337 ([v0, v1, v2, v3, v4, v5, v6], []) (.int v :: st) h) := exF_o (i := (i_ai 0 1337)) rfl rfl
theorem eL_law_1337 {ev : xV} {v1 v2 v3 v4 v5 v6 : Option Value} {x : Nat} {st : List Value} {h : xH} : exF ev cL_law 1337 ([some (.ref x), v1, v2, v3, v4, v5, v6], []) st h = exF ev cL_law 1338 ([some (.ref x), v1, v2, v3, v4, v5, v6], []) (.ref x :: st) h := exF_j (i := (i_aload 0 1338)) rfl rfl
theorem eL_law_1338 {ev : xV} {v0 v1 v2 v3 v5 v6 : Option Value} {x : Int32} {st : List Value} {h : xH} : exF ev cL_law 1338 ([v0, v1, v2, v3, some (.int x), v5, v6], []) st h = exF ev cL_law 1340 ([v0, v1, v2, v3, some (.int x), v5, v6], []) (.int x :: st) h := exF_j (i := (i_iload 4 1340)) rfl rfl
theorem eL_law_1340 {ev : xV} {v0 v1 v2 v3 v4 v5 v6 : Option Value} {st : List Value} {h : xH} : exF ev cL_law 1340 ([v0, v1, v2, v3, v4, v5, v6], []) st h = exF ev cL_law 1341 ([v0, v1, v2, v3, v4, v5, v6], []) (.int (nI 3) :: st) h := exF_j (i := (i_const (.int (nI 3)) 1341)) rfl rfl
theorem eL_law_1341 {ev : xV} {v0 v1 v2 v3 v4 v5 v6 : Option Value} {x y : Int32} {st : List Value} {h : xH} : exF ev cL_law 1341 ([v0, v1, v2, v3, v4, v5, v6], []) (.int y :: .int x :: st) h = exF ev cL_law 1342 ([v0, v1, v2, v3, v4, v5, v6], []) (.int (x + y) :: st) h := exF_j (i := (i_ii (fun x y => x + y) 1342)) rfl rfl
theorem eL_law_1342 {ev : xV} {v0 v1 v2 v3 v4 v5 v6 : Option Value} {i : Int32} {a : Nat} {st : List Value} {h : xH} : exF ev cL_law 1342 ([v0, v1, v2, v3, v4, v5, v6], []) (.int i :: .ref a :: st) h = xO (xai h 0 a i) (fun v => exF ev cL_law 1343 ([v0, v1, v2, v3, v4, v5, v6], []) (.int v :: st) h) := exF_o (i := (i_ai 0 1343)) rfl rfl
theorem eL_law_1343 {ev : xV} {v1 v2 v3 v4 v5 v6 : Option Value} {x : Nat} {st : List Value} {h : xH} : exF ev cL_law 1343 ([some (.ref x), v1, v2, v3, v4, v5, v6], []) st h = exF ev cL_law 1344 ([some (.ref x), v1, v2, v3, v4, v5, v6], []) (.ref x :: st) h := exF_j (i := (i_aload 0 1344)) rfl rfl
theorem eL_law_1344 {ev : xV} {v0 v1 v2 v3 v5 v6 : Option Value} {x : Int32} {st : List Value} {h : xH} : exF ev cL_law 1344 ([v0, v1, v2, v3, some (.int x), v5, v6], []) st h = exF ev cL_law 1346 ([v0, v1, v2, v3, some (.int x), v5, v6], []) (.int x :: st) h := exF_j (i := (i_iload 4 1346)) rfl rfl
theorem eL_law_1346 {ev : xV} {v0 v1 v2 v3 v4 v5 v6 : Option Value} {st : List Value} {h : xH} : exF ev cL_law 1346 ([v0, v1, v2, v3, v4, v5, v6], []) st h = exF ev cL_law 1347 ([v0, v1, v2, v3, v4, v5, v6], []) (.int (nI 4) :: st) h := exF_j (i := (i_const (.int (nI 4)) 1347)) rfl rfl
theorem eL_law_1347 {ev : xV} {v0 v1 v2 v3 v4 v5 v6 : Option Value} {x y : Int32} {st : List Value} {h : xH} : exF ev cL_law 1347 ([v0, v1, v2, v3, v4, v5, v6], []) (.int y :: .int x :: st) h = exF ev cL_law 1348 ([v0, v1, v2, v3, v4, v5, v6], []) (.int (x + y) :: st) h := exF_j (i := (i_ii (fun x y => x + y) 1348)) rfl rfl
theorem eL_law_1348 {ev : xV} {v0 v1 v2 v3 v4 v5 v6 : Option Value} {i : Int32} {a : Nat} {st : List Value} {h : xH} : exF ev cL_law 1348 ([v0, v1, v2, v3, v4, v5, v6], []) (.int i :: .ref a :: st) h = xO (xai h 0 a i) (fun v => exF ev cL_law 1349 ([v0, v1, v2, v3, v4, v5, v6], []) (.int v :: st) h) := exF_o (i := (i_ai 0 1349)) rfl rfl
theorem eL_law_1349 {ev : xV} {v0 v1 v2 v3 v4 v5 v6 : Option Value} {a0 : Value} {a1 : Value} {a2 : Value} {a3 : Value} {a : Nat} {h : xH} : exF ev cL_law 1349 ([v0, v1, v2, v3, v4, v5, v6], []) [a3, a2, a1, a0, .ref a] h = xO (xck h a 4) (fun _ => xB (ev 358 [.ref a, a0, a1, a2, a3] h) (fun v h => exF ev cL_law 1352 ([v0, v1, v2, v3, v4, v5, v6], []) [v] h)) := exF_cd (i := (i_cv 4 358 4 1352)) rfl rfl
theorem eL_law_1352 {ev : xV} {v0 v1 v2 v3 v4 v5 v6 : Option Value} {x : Int32} {st : List Value} {h : xH} : exF ev cL_law 1352 ([v0, v1, v2, v3, v4, v5, v6], []) (.int x :: st) h = exF ev cL_law 1354 ([v0, v1, v2, v3, v4, v5, some (.int x)], []) st h := exF_j (i := (i_istore 6 1354)) rfl rfl
theorem eL_law_1354 {ev : xV} {v0 v1 v3 v4 v5 v6 : Option Value} {x : Nat} {st : List Value} {h : xH} : exF ev cL_law 1354 ([v0, v1, some (.ref x), v3, v4, v5, v6], []) st h = exF ev cL_law 1355 ([v0, v1, some (.ref x), v3, v4, v5, v6], []) (.ref x :: st) h := exF_j (i := (i_aload 2 1355)) rfl rfl
theorem eL_law_1355 {ev : xV} {v0 v1 v2 v3 v4 v5 v6 : Option Value} {a : Nat} {h : xH} : exF ev cL_law 1355 ([v0, v1, v2, v3, v4, v5, v6], []) [.ref a] h = xO (xck h a 4) (fun _ => xB (ev 243 [.ref a] h) (fun v h => exF ev cL_law 1358 ([v0, v1, v2, v3, v4, v5, v6], []) [v] h)) := exF_cd (i := (i_cv 4 243 0 1358)) rfl rfl
theorem eL_law_1358 {ev : xV} {v0 v1 v2 v3 v4 v6 : Option Value} {x : Int32} {st : List Value} {h : xH} : exF ev cL_law 1358 ([v0, v1, v2, v3, v4, some (.int x), v6], []) st h = exF ev cL_law 1360 ([v0, v1, v2, v3, v4, some (.int x), v6], []) (.int x :: st) h := exF_j (i := (i_iload 5 1360)) rfl rfl
theorem eL_law_1360 {ev : xV} {v0 v1 v2 v3 v4 v5 v6 : Option Value} {x y : Int32} {st : List Value} {h : xH} : exF ev cL_law 1360 ([v0, v1, v2, v3, v4, v5, v6], []) (.int y :: .int x :: st) h = if x = y then exF ev cL_law 1365 ([v0, v1, v2, v3, v4, v5, v6], []) st h else exF ev cL_law 1363 ([v0, v1, v2, v3, v4, v5, v6], []) st h := exF_b (i := (i_if2 (fun x y => x = y) 1365 1363)) rfl rfl
theorem eL_law_1363 {ev : xV} {v0 v1 v2 v3 v4 v5 v6 : Option Value} {st : List Value} {h : xH} : exF ev cL_law 1363 ([v0, v1, v2, v3, v4, v5, v6], []) st h = exF ev cL_law 1364 ([v0, v1, v2, v3, v4, v5, v6], []) (.int (nI 0) :: st) h := exF_j (i := (i_const (.int (nI 0)) 1364)) rfl rfl
theorem eL_law_1364 {ev : xV} {v0 v1 v2 v3 v4 v5 v6 : Option Value} {x : Int32} {h : xH} : exF ev cL_law 1364 ([v0, v1, v2, v3, v4, v5, v6], []) [.int x] h = if x = nI 0 ∨ x = nI 1 then some (.inl (some (.int x)), h) else none := exF_z (i := (i_zret)) rfl rfl
theorem eL_law_1364b0 {ev : xV} {v0 v1 v2 v3 v4 v5 v6 : Option Value} {h : xH} : exF ev cL_law 1364 ([v0, v1, v2, v3, v4, v5, v6], []) [.int (nI 0)] h = some (.inl (some (.int (nI 0))), h) := exF_r (i := (i_zret)) rfl i_zret_0
theorem eL_law_1364b1 {ev : xV} {v0 v1 v2 v3 v4 v5 v6 : Option Value} {h : xH} : exF ev cL_law 1364 ([v0, v1, v2, v3, v4, v5, v6], []) [.int (nI 1)] h = some (.inl (some (.int (nI 1))), h) := exF_r (i := (i_zret)) rfl i_zret_1
theorem eL_law_1364b {ev : xV} {v0 v1 v2 v3 v4 v5 v6 : Option Value} {b : Bool} {h : xH} : exF ev cL_law 1364 ([v0, v1, v2, v3, v4, v5, v6], []) [.int (bI b)] h = some (.inl (some (.int (bI b))), h) := exF_r (i := (i_zret)) rfl (i_zret_b b)
theorem eL_law_1365 {ev : xV} {v0 v1 v2 v3 v4 v6 : Option Value} {x : Int32} {st : List Value} {h : xH} : exF ev cL_law 1365 ([v0, v1, v2, v3, v4, some (.int x), v6], []) st h = exF ev cL_law 1367 ([v0, v1, v2, v3, v4, some (.int x), v6], []) (.int x :: st) h := exF_j (i := (i_iload 5 1367)) rfl rfl
theorem eL_law_1367 {ev : xV} {v0 v1 v2 v3 v4 v5 v6 : Option Value} {x : Int32} {st : List Value} {h : xH} : exF ev cL_law 1367 ([v0, v1, v2, v3, v4, v5, v6], []) (.int x :: st) h = if ¬ x = 0 then exF ev cL_law 1382 ([v0, v1, v2, v3, v4, v5, v6], []) st h else exF ev cL_law 1370 ([v0, v1, v2, v3, v4, v5, v6], []) st h := exF_b (i := (i_if1 (fun x => ¬ x = 0) 1382 1370)) rfl rfl
theorem eL_law_1370 {ev : xV} {v0 v1 v2 v4 v5 v6 : Option Value} {x : Nat} {st : List Value} {h : xH} : exF ev cL_law 1370 ([v0, v1, v2, some (.ref x), v4, v5, v6], []) st h = exF ev cL_law 1371 ([v0, v1, v2, some (.ref x), v4, v5, v6], []) (.ref x :: st) h := exF_j (i := (i_aload 3 1371)) rfl rfl
theorem eL_law_1371 {ev : xV} {v0 v1 v2 v3 v4 v5 v6 : Option Value} {st : List Value} {h : xH} : exF ev cL_law 1371 ([v0, v1, v2, v3, v4, v5, v6], []) st h = exF ev cL_law 1372 ([v0, v1, v2, v3, v4, v5, v6], []) (.int (nI 0) :: st) h := exF_j (i := (i_const (.int (nI 0)) 1372)) rfl rfl
theorem eL_law_1372 {ev : xV} {v0 v1 v2 v3 v4 v5 v6 : Option Value} {i : Int32} {a : Nat} {st : List Value} {h : xH} : exF ev cL_law 1372 ([v0, v1, v2, v3, v4, v5, v6], []) (.int i :: .ref a :: st) h = xO (xal h 3 a i) (fun v => exF ev cL_law 1373 ([v0, v1, v2, v3, v4, v5, v6], []) (.long v :: st) h) := exF_o (i := (i_al 3 1373)) rfl rfl
theorem eL_law_1373 {ev : xV} {v0 v1 v2 v3 v4 v5 : Option Value} {x : Int32} {st : List Value} {h : xH} : exF ev cL_law 1373 ([v0, v1, v2, v3, v4, v5, some (.int x)], []) st h = exF ev cL_law 1375 ([v0, v1, v2, v3, v4, v5, some (.int x)], []) (.int x :: st) h := exF_j (i := (i_iload 6 1375)) rfl rfl
theorem eL_law_1375 {ev : xV} {v0 v1 v2 v3 v4 v5 v6 : Option Value} {x : Int32} {st : List Value} {h : xH} : exF ev cL_law 1375 ([v0, v1, v2, v3, v4, v5, v6], []) (.int x :: st) h = exF ev cL_law 1376 ([v0, v1, v2, v3, v4, v5, v6], []) (.long x.toInt64 :: st) h := exF_j (i := (i_i2l 1376)) rfl rfl
theorem eL_law_1376 {ev : xV} {v0 v1 v2 v3 v4 v5 v6 : Option Value} {x y : Int64} {st : List Value} {h : xH} : exF ev cL_law 1376 ([v0, v1, v2, v3, v4, v5, v6], []) (.long y :: .long x :: st) h = exF ev cL_law 1377 ([v0, v1, v2, v3, v4, v5, v6], []) (.int (lg_cmp x y) :: st) h := exF_j (i := (i_lcmp 1377)) rfl rfl
theorem eL_law_1377 {ev : xV} {v0 v1 v2 v3 v4 v5 v6 : Option Value} {x : Int32} {st : List Value} {h : xH} : exF ev cL_law 1377 ([v0, v1, v2, v3, v4, v5, v6], []) (.int x :: st) h = if x = 0 then exF ev cL_law 1382 ([v0, v1, v2, v3, v4, v5, v6], []) st h else exF ev cL_law 1380 ([v0, v1, v2, v3, v4, v5, v6], []) st h := exF_b (i := (i_if1 (fun x => x = 0) 1382 1380)) rfl rfl
theorem eL_law_1380 {ev : xV} {v0 v1 v2 v3 v4 v5 v6 : Option Value} {st : List Value} {h : xH} : exF ev cL_law 1380 ([v0, v1, v2, v3, v4, v5, v6], []) st h = exF ev cL_law 1381 ([v0, v1, v2, v3, v4, v5, v6], []) (.int (nI 0) :: st) h := exF_j (i := (i_const (.int (nI 0)) 1381)) rfl rfl
theorem eL_law_1381 {ev : xV} {v0 v1 v2 v3 v4 v5 v6 : Option Value} {x : Int32} {h : xH} : exF ev cL_law 1381 ([v0, v1, v2, v3, v4, v5, v6], []) [.int x] h = if x = nI 0 ∨ x = nI 1 then some (.inl (some (.int x)), h) else none := exF_z (i := (i_zret)) rfl rfl
theorem eL_law_1381b0 {ev : xV} {v0 v1 v2 v3 v4 v5 v6 : Option Value} {h : xH} : exF ev cL_law 1381 ([v0, v1, v2, v3, v4, v5, v6], []) [.int (nI 0)] h = some (.inl (some (.int (nI 0))), h) := exF_r (i := (i_zret)) rfl i_zret_0
theorem eL_law_1381b1 {ev : xV} {v0 v1 v2 v3 v4 v5 v6 : Option Value} {h : xH} : exF ev cL_law 1381 ([v0, v1, v2, v3, v4, v5, v6], []) [.int (nI 1)] h = some (.inl (some (.int (nI 1))), h) := exF_r (i := (i_zret)) rfl i_zret_1
theorem eL_law_1381b {ev : xV} {v0 v1 v2 v3 v4 v5 v6 : Option Value} {b : Bool} {h : xH} : exF ev cL_law 1381 ([v0, v1, v2, v3, v4, v5, v6], []) [.int (bI b)] h = some (.inl (some (.int (bI b))), h) := exF_r (i := (i_zret)) rfl (i_zret_b b)
theorem eL_law_1382 {ev : xV} {v0 v1 v2 v3 v4 v5 v6 : Option Value} {st : List Value} {h : xH} : exF ev cL_law 1382 ([v0, v1, v2, v3, v4, v5, v6], []) st h = exF ev cL_law 1512 ([v0, v1, v2, v3, v4, v5, v6], []) st h := exF_j (i := (i_goto 1512)) rfl rfl
theorem eL_law_1385 {ev : xV} {v0 v2 v3 v4 v5 v6 : Option Value} {x : Nat} {st : List Value} {h : xH} : exF ev cL_law 1385 ([v0, some (.ref x), v2, v3, v4, v5, v6], []) st h = exF ev cL_law 1386 ([v0, some (.ref x), v2, v3, v4, v5, v6], []) (.ref x :: st) h := exF_j (i := (i_aload 1 1386)) rfl rfl
theorem eL_law_1386 {ev : xV} {v1 v2 v3 v4 v5 v6 : Option Value} {x : Nat} {st : List Value} {h : xH} : exF ev cL_law 1386 ([some (.ref x), v1, v2, v3, v4, v5, v6], []) st h = exF ev cL_law 1387 ([some (.ref x), v1, v2, v3, v4, v5, v6], []) (.ref x :: st) h := exF_j (i := (i_aload 0 1387)) rfl rfl
theorem eL_law_1387 {ev : xV} {v0 v1 v2 v3 v5 v6 : Option Value} {x : Int32} {st : List Value} {h : xH} : exF ev cL_law 1387 ([v0, v1, v2, v3, some (.int x), v5, v6], []) st h = exF ev cL_law 1389 ([v0, v1, v2, v3, some (.int x), v5, v6], []) (.int x :: st) h := exF_j (i := (i_iload 4 1389)) rfl rfl
theorem eL_law_1389 {ev : xV} {v0 v1 v2 v3 v4 v5 v6 : Option Value} {st : List Value} {h : xH} : exF ev cL_law 1389 ([v0, v1, v2, v3, v4, v5, v6], []) st h = exF ev cL_law 1390 ([v0, v1, v2, v3, v4, v5, v6], []) (.int (nI 1) :: st) h := exF_j (i := (i_const (.int (nI 1)) 1390)) rfl rfl
theorem eL_law_1390 {ev : xV} {v0 v1 v2 v3 v4 v5 v6 : Option Value} {x y : Int32} {st : List Value} {h : xH} : exF ev cL_law 1390 ([v0, v1, v2, v3, v4, v5, v6], []) (.int y :: .int x :: st) h = exF ev cL_law 1391 ([v0, v1, v2, v3, v4, v5, v6], []) (.int (x + y) :: st) h := exF_j (i := (i_ii (fun x y => x + y) 1391)) rfl rfl
theorem eL_law_1391 {ev : xV} {v0 v1 v2 v3 v4 v5 v6 : Option Value} {i : Int32} {a : Nat} {st : List Value} {h : xH} : exF ev cL_law 1391 ([v0, v1, v2, v3, v4, v5, v6], []) (.int i :: .ref a :: st) h = xO (xai h 0 a i) (fun v => exF ev cL_law 1392 ([v0, v1, v2, v3, v4, v5, v6], []) (.int v :: st) h) := exF_o (i := (i_ai 0 1392)) rfl rfl
theorem eL_law_1392 {ev : xV} {v1 v2 v3 v4 v5 v6 : Option Value} {x : Nat} {st : List Value} {h : xH} : exF ev cL_law 1392 ([some (.ref x), v1, v2, v3, v4, v5, v6], []) st h = exF ev cL_law 1393 ([some (.ref x), v1, v2, v3, v4, v5, v6], []) (.ref x :: st) h := exF_j (i := (i_aload 0 1393)) rfl rfl
theorem eL_law_1393 {ev : xV} {v0 v1 v2 v3 v5 v6 : Option Value} {x : Int32} {st : List Value} {h : xH} : exF ev cL_law 1393 ([v0, v1, v2, v3, some (.int x), v5, v6], []) st h = exF ev cL_law 1395 ([v0, v1, v2, v3, some (.int x), v5, v6], []) (.int x :: st) h := exF_j (i := (i_iload 4 1395)) rfl rfl
theorem eL_law_1395 {ev : xV} {v0 v1 v2 v3 v4 v5 v6 : Option Value} {st : List Value} {h : xH} : exF ev cL_law 1395 ([v0, v1, v2, v3, v4, v5, v6], []) st h = exF ev cL_law 1396 ([v0, v1, v2, v3, v4, v5, v6], []) (.int (nI 2) :: st) h := exF_j (i := (i_const (.int (nI 2)) 1396)) rfl rfl
theorem eL_law_1396 {ev : xV} {v0 v1 v2 v3 v4 v5 v6 : Option Value} {x y : Int32} {st : List Value} {h : xH} : exF ev cL_law 1396 ([v0, v1, v2, v3, v4, v5, v6], []) (.int y :: .int x :: st) h = exF ev cL_law 1397 ([v0, v1, v2, v3, v4, v5, v6], []) (.int (x + y) :: st) h := exF_j (i := (i_ii (fun x y => x + y) 1397)) rfl rfl
theorem eL_law_1397 {ev : xV} {v0 v1 v2 v3 v4 v5 v6 : Option Value} {i : Int32} {a : Nat} {st : List Value} {h : xH} : exF ev cL_law 1397 ([v0, v1, v2, v3, v4, v5, v6], []) (.int i :: .ref a :: st) h = xO (xai h 0 a i) (fun v => exF ev cL_law 1398 ([v0, v1, v2, v3, v4, v5, v6], []) (.int v :: st) h) := exF_o (i := (i_ai 0 1398)) rfl rfl
theorem eL_law_1398 {ev : xV} {v1 v2 v3 v4 v5 v6 : Option Value} {x : Nat} {st : List Value} {h : xH} : exF ev cL_law 1398 ([some (.ref x), v1, v2, v3, v4, v5, v6], []) st h = exF ev cL_law 1399 ([some (.ref x), v1, v2, v3, v4, v5, v6], []) (.ref x :: st) h := exF_j (i := (i_aload 0 1399)) rfl rfl
theorem eL_law_1399 {ev : xV} {v0 v1 v2 v3 v5 v6 : Option Value} {x : Int32} {st : List Value} {h : xH} : exF ev cL_law 1399 ([v0, v1, v2, v3, some (.int x), v5, v6], []) st h = exF ev cL_law 1401 ([v0, v1, v2, v3, some (.int x), v5, v6], []) (.int x :: st) h := exF_j (i := (i_iload 4 1401)) rfl rfl
theorem eL_law_1401 {ev : xV} {v0 v1 v2 v3 v4 v5 v6 : Option Value} {st : List Value} {h : xH} : exF ev cL_law 1401 ([v0, v1, v2, v3, v4, v5, v6], []) st h = exF ev cL_law 1402 ([v0, v1, v2, v3, v4, v5, v6], []) (.int (nI 3) :: st) h := exF_j (i := (i_const (.int (nI 3)) 1402)) rfl rfl
theorem eL_law_1402 {ev : xV} {v0 v1 v2 v3 v4 v5 v6 : Option Value} {x y : Int32} {st : List Value} {h : xH} : exF ev cL_law 1402 ([v0, v1, v2, v3, v4, v5, v6], []) (.int y :: .int x :: st) h = exF ev cL_law 1403 ([v0, v1, v2, v3, v4, v5, v6], []) (.int (x + y) :: st) h := exF_j (i := (i_ii (fun x y => x + y) 1403)) rfl rfl
theorem eL_law_1403 {ev : xV} {v0 v1 v2 v3 v4 v5 v6 : Option Value} {i : Int32} {a : Nat} {st : List Value} {h : xH} : exF ev cL_law 1403 ([v0, v1, v2, v3, v4, v5, v6], []) (.int i :: .ref a :: st) h = xO (xai h 0 a i) (fun v => exF ev cL_law 1404 ([v0, v1, v2, v3, v4, v5, v6], []) (.int v :: st) h) := exF_o (i := (i_ai 0 1404)) rfl rfl
theorem eL_law_1404 {ev : xV} {v0 v1 v2 v3 v4 v5 v6 : Option Value} {a0 : Value} {a1 : Value} {a2 : Value} {a : Nat} {h : xH} : exF ev cL_law 1404 ([v0, v1, v2, v3, v4, v5, v6], []) [a2, a1, a0, .ref a] h = xO (xck h a 0) (fun _ => xB (ev 157 [.ref a, a0, a1, a2] h) (fun v h => exF ev cL_law 1407 ([v0, v1, v2, v3, v4, v5, v6], []) [v] h)) := exF_cd (i := (i_cv 0 157 3 1407)) rfl rfl
theorem eL_law_1407 {ev : xV} {v0 v1 v3 v4 v5 v6 : Option Value} {x : Nat} {st : List Value} {h : xH} : exF ev cL_law 1407 ([v0, v1, some (.ref x), v3, v4, v5, v6], []) st h = exF ev cL_law 1408 ([v0, v1, some (.ref x), v3, v4, v5, v6], []) (.ref x :: st) h := exF_j (i := (i_aload 2 1408)) rfl rfl
theorem eL_law_1408 {ev : xV} {v1 v2 v3 v4 v5 v6 : Option Value} {x : Nat} {st : List Value} {h : xH} : exF ev cL_law 1408 ([some (.ref x), v1, v2, v3, v4, v5, v6], []) st h = exF ev cL_law 1409 ([some (.ref x), v1, v2, v3, v4, v5, v6], []) (.ref x :: st) h := exF_j (i := (i_aload 0 1409)) rfl rfl
theorem eL_law_1409 {ev : xV} {v0 v1 v2 v3 v5 v6 : Option Value} {x : Int32} {st : List Value} {h : xH} : exF ev cL_law 1409 ([v0, v1, v2, v3, some (.int x), v5, v6], []) st h = exF ev cL_law 1411 ([v0, v1, v2, v3, some (.int x), v5, v6], []) (.int x :: st) h := exF_j (i := (i_iload 4 1411)) rfl rfl
theorem eL_law_1411 {ev : xV} {v0 v1 v2 v3 v4 v5 v6 : Option Value} {st : List Value} {h : xH} : exF ev cL_law 1411 ([v0, v1, v2, v3, v4, v5, v6], []) st h = exF ev cL_law 1412 ([v0, v1, v2, v3, v4, v5, v6], []) (.int (nI 1) :: st) h := exF_j (i := (i_const (.int (nI 1)) 1412)) rfl rfl
theorem eL_law_1412 {ev : xV} {v0 v1 v2 v3 v4 v5 v6 : Option Value} {x y : Int32} {st : List Value} {h : xH} : exF ev cL_law 1412 ([v0, v1, v2, v3, v4, v5, v6], []) (.int y :: .int x :: st) h = exF ev cL_law 1413 ([v0, v1, v2, v3, v4, v5, v6], []) (.int (x + y) :: st) h := exF_j (i := (i_ii (fun x y => x + y) 1413)) rfl rfl
theorem eL_law_1413 {ev : xV} {v0 v1 v2 v3 v4 v5 v6 : Option Value} {i : Int32} {a : Nat} {st : List Value} {h : xH} : exF ev cL_law 1413 ([v0, v1, v2, v3, v4, v5, v6], []) (.int i :: .ref a :: st) h = xO (xai h 0 a i) (fun v => exF ev cL_law 1414 ([v0, v1, v2, v3, v4, v5, v6], []) (.int v :: st) h) := exF_o (i := (i_ai 0 1414)) rfl rfl
theorem eL_law_1414 {ev : xV} {v1 v2 v3 v4 v5 v6 : Option Value} {x : Nat} {st : List Value} {h : xH} : exF ev cL_law 1414 ([some (.ref x), v1, v2, v3, v4, v5, v6], []) st h = exF ev cL_law 1415 ([some (.ref x), v1, v2, v3, v4, v5, v6], []) (.ref x :: st) h := exF_j (i := (i_aload 0 1415)) rfl rfl
theorem eL_law_1415 {ev : xV} {v0 v1 v2 v3 v5 v6 : Option Value} {x : Int32} {st : List Value} {h : xH} : exF ev cL_law 1415 ([v0, v1, v2, v3, some (.int x), v5, v6], []) st h = exF ev cL_law 1417 ([v0, v1, v2, v3, some (.int x), v5, v6], []) (.int x :: st) h := exF_j (i := (i_iload 4 1417)) rfl rfl
theorem eL_law_1417 {ev : xV} {v0 v1 v2 v3 v4 v5 v6 : Option Value} {st : List Value} {h : xH} : exF ev cL_law 1417 ([v0, v1, v2, v3, v4, v5, v6], []) st h = exF ev cL_law 1418 ([v0, v1, v2, v3, v4, v5, v6], []) (.int (nI 2) :: st) h := exF_j (i := (i_const (.int (nI 2)) 1418)) rfl rfl
theorem eL_law_1418 {ev : xV} {v0 v1 v2 v3 v4 v5 v6 : Option Value} {x y : Int32} {st : List Value} {h : xH} : exF ev cL_law 1418 ([v0, v1, v2, v3, v4, v5, v6], []) (.int y :: .int x :: st) h = exF ev cL_law 1419 ([v0, v1, v2, v3, v4, v5, v6], []) (.int (x + y) :: st) h := exF_j (i := (i_ii (fun x y => x + y) 1419)) rfl rfl
theorem eL_law_1419 {ev : xV} {v0 v1 v2 v3 v4 v5 v6 : Option Value} {i : Int32} {a : Nat} {st : List Value} {h : xH} : exF ev cL_law 1419 ([v0, v1, v2, v3, v4, v5, v6], []) (.int i :: .ref a :: st) h = xO (xai h 0 a i) (fun v => exF ev cL_law 1420 ([v0, v1, v2, v3, v4, v5, v6], []) (.int v :: st) h) := exF_o (i := (i_ai 0 1420)) rfl rfl
theorem eL_law_1420 {ev : xV} {v1 v2 v3 v4 v5 v6 : Option Value} {x : Nat} {st : List Value} {h : xH} : exF ev cL_law 1420 ([some (.ref x), v1, v2, v3, v4, v5, v6], []) st h = exF ev cL_law 1421 ([some (.ref x), v1, v2, v3, v4, v5, v6], []) (.ref x :: st) h := exF_j (i := (i_aload 0 1421)) rfl rfl
theorem eL_law_1421 {ev : xV} {v0 v1 v2 v3 v5 v6 : Option Value} {x : Int32} {st : List Value} {h : xH} : exF ev cL_law 1421 ([v0, v1, v2, v3, some (.int x), v5, v6], []) st h = exF ev cL_law 1423 ([v0, v1, v2, v3, some (.int x), v5, v6], []) (.int x :: st) h := exF_j (i := (i_iload 4 1423)) rfl rfl
theorem eL_law_1423 {ev : xV} {v0 v1 v2 v3 v4 v5 v6 : Option Value} {st : List Value} {h : xH} : exF ev cL_law 1423 ([v0, v1, v2, v3, v4, v5, v6], []) st h = exF ev cL_law 1424 ([v0, v1, v2, v3, v4, v5, v6], []) (.int (nI 3) :: st) h := exF_j (i := (i_const (.int (nI 3)) 1424)) rfl rfl
theorem eL_law_1424 {ev : xV} {v0 v1 v2 v3 v4 v5 v6 : Option Value} {x y : Int32} {st : List Value} {h : xH} : exF ev cL_law 1424 ([v0, v1, v2, v3, v4, v5, v6], []) (.int y :: .int x :: st) h = exF ev cL_law 1425 ([v0, v1, v2, v3, v4, v5, v6], []) (.int (x + y) :: st) h := exF_j (i := (i_ii (fun x y => x + y) 1425)) rfl rfl
theorem eL_law_1425 {ev : xV} {v0 v1 v2 v3 v4 v5 v6 : Option Value} {i : Int32} {a : Nat} {st : List Value} {h : xH} : exF ev cL_law 1425 ([v0, v1, v2, v3, v4, v5, v6], []) (.int i :: .ref a :: st) h = xO (xai h 0 a i) (fun v => exF ev cL_law 1426 ([v0, v1, v2, v3, v4, v5, v6], []) (.int v :: st) h) := exF_o (i := (i_ai 0 1426)) rfl rfl
theorem eL_law_1426 {ev : xV} {v0 v1 v2 v3 v4 v5 v6 : Option Value} {a0 : Value} {a1 : Value} {a2 : Value} {r0 : Value} {a : Nat} {h : xH} : exF ev cL_law 1426 ([v0, v1, v2, v3, v4, v5, v6], []) [a2, a1, a0, .ref a, r0] h = xO (xck h a 4) (fun _ => xB (ev 360 [.ref a, a0, a1, a2] h) (fun v h => exF ev cL_law 1429 ([v0, v1, v2, v3, v4, v5, v6], []) [v, r0] h)) := exF_cd (i := (i_cv 4 360 3 1429)) rfl rfl
theorem eL_law_1429 {ev : xV} {v0 v1 v2 v3 v4 v5 v6 : Option Value} {x y : Int32} {st : List Value} {h : xH} : exF ev cL_law 1429 ([v0, v1, v2, v3, v4, v5, v6], []) (.int y :: .int x :: st) h = if x = y then exF ev cL_law 1512 ([v0, v1, v2, v3, v4, v5, v6], []) st h else exF ev cL_law 1432 ([v0, v1, v2, v3, v4, v5, v6], []) st h := exF_b (i := (i_if2 (fun x y => x = y) 1512 1432)) rfl rfl
theorem eL_law_1432 {ev : xV} {v0 v1 v2 v3 v4 v5 v6 : Option Value} {st : List Value} {h : xH} : exF ev cL_law 1432 ([v0, v1, v2, v3, v4, v5, v6], []) st h = exF ev cL_law 1433 ([v0, v1, v2, v3, v4, v5, v6], []) (.int (nI 0) :: st) h := exF_j (i := (i_const (.int (nI 0)) 1433)) rfl rfl
theorem eL_law_1433 {ev : xV} {v0 v1 v2 v3 v4 v5 v6 : Option Value} {x : Int32} {h : xH} : exF ev cL_law 1433 ([v0, v1, v2, v3, v4, v5, v6], []) [.int x] h = if x = nI 0 ∨ x = nI 1 then some (.inl (some (.int x)), h) else none := exF_z (i := (i_zret)) rfl rfl
theorem eL_law_1433b0 {ev : xV} {v0 v1 v2 v3 v4 v5 v6 : Option Value} {h : xH} : exF ev cL_law 1433 ([v0, v1, v2, v3, v4, v5, v6], []) [.int (nI 0)] h = some (.inl (some (.int (nI 0))), h) := exF_r (i := (i_zret)) rfl i_zret_0
theorem eL_law_1433b1 {ev : xV} {v0 v1 v2 v3 v4 v5 v6 : Option Value} {h : xH} : exF ev cL_law 1433 ([v0, v1, v2, v3, v4, v5, v6], []) [.int (nI 1)] h = some (.inl (some (.int (nI 1))), h) := exF_r (i := (i_zret)) rfl i_zret_1
theorem eL_law_1433b {ev : xV} {v0 v1 v2 v3 v4 v5 v6 : Option Value} {b : Bool} {h : xH} : exF ev cL_law 1433 ([v0, v1, v2, v3, v4, v5, v6], []) [.int (bI b)] h = some (.inl (some (.int (bI b))), h) := exF_r (i := (i_zret)) rfl (i_zret_b b)
theorem eL_law_1434 {ev : xV} {v0 v2 v3 v4 v5 v6 : Option Value} {x : Nat} {st : List Value} {h : xH} : exF ev cL_law 1434 ([v0, some (.ref x), v2, v3, v4, v5, v6], []) st h = exF ev cL_law 1435 ([v0, some (.ref x), v2, v3, v4, v5, v6], []) (.ref x :: st) h := exF_j (i := (i_aload 1 1435)) rfl rfl
theorem eL_law_1435 {ev : xV} {v1 v2 v3 v4 v5 v6 : Option Value} {x : Nat} {st : List Value} {h : xH} : exF ev cL_law 1435 ([some (.ref x), v1, v2, v3, v4, v5, v6], []) st h = exF ev cL_law 1436 ([some (.ref x), v1, v2, v3, v4, v5, v6], []) (.ref x :: st) h := exF_j (i := (i_aload 0 1436)) rfl rfl
theorem eL_law_1436 {ev : xV} {v0 v1 v2 v3 v5 v6 : Option Value} {x : Int32} {st : List Value} {h : xH} : exF ev cL_law 1436 ([v0, v1, v2, v3, some (.int x), v5, v6], []) st h = exF ev cL_law 1438 ([v0, v1, v2, v3, some (.int x), v5, v6], []) (.int x :: st) h := exF_j (i := (i_iload 4 1438)) rfl rfl
theorem eL_law_1438 {ev : xV} {v0 v1 v2 v3 v4 v5 v6 : Option Value} {st : List Value} {h : xH} : exF ev cL_law 1438 ([v0, v1, v2, v3, v4, v5, v6], []) st h = exF ev cL_law 1439 ([v0, v1, v2, v3, v4, v5, v6], []) (.int (nI 1) :: st) h := exF_j (i := (i_const (.int (nI 1)) 1439)) rfl rfl
theorem eL_law_1439 {ev : xV} {v0 v1 v2 v3 v4 v5 v6 : Option Value} {x y : Int32} {st : List Value} {h : xH} : exF ev cL_law 1439 ([v0, v1, v2, v3, v4, v5, v6], []) (.int y :: .int x :: st) h = exF ev cL_law 1440 ([v0, v1, v2, v3, v4, v5, v6], []) (.int (x + y) :: st) h := exF_j (i := (i_ii (fun x y => x + y) 1440)) rfl rfl
theorem eL_law_1440 {ev : xV} {v0 v1 v2 v3 v4 v5 v6 : Option Value} {i : Int32} {a : Nat} {st : List Value} {h : xH} : exF ev cL_law 1440 ([v0, v1, v2, v3, v4, v5, v6], []) (.int i :: .ref a :: st) h = xO (xai h 0 a i) (fun v => exF ev cL_law 1441 ([v0, v1, v2, v3, v4, v5, v6], []) (.int v :: st) h) := exF_o (i := (i_ai 0 1441)) rfl rfl
theorem eL_law_1441 {ev : xV} {v1 v2 v3 v4 v5 v6 : Option Value} {x : Nat} {st : List Value} {h : xH} : exF ev cL_law 1441 ([some (.ref x), v1, v2, v3, v4, v5, v6], []) st h = exF ev cL_law 1442 ([some (.ref x), v1, v2, v3, v4, v5, v6], []) (.ref x :: st) h := exF_j (i := (i_aload 0 1442)) rfl rfl
theorem eL_law_1442 {ev : xV} {v0 v1 v2 v3 v5 v6 : Option Value} {x : Int32} {st : List Value} {h : xH} : exF ev cL_law 1442 ([v0, v1, v2, v3, some (.int x), v5, v6], []) st h = exF ev cL_law 1444 ([v0, v1, v2, v3, some (.int x), v5, v6], []) (.int x :: st) h := exF_j (i := (i_iload 4 1444)) rfl rfl
theorem eL_law_1444 {ev : xV} {v0 v1 v2 v3 v4 v5 v6 : Option Value} {st : List Value} {h : xH} : exF ev cL_law 1444 ([v0, v1, v2, v3, v4, v5, v6], []) st h = exF ev cL_law 1445 ([v0, v1, v2, v3, v4, v5, v6], []) (.int (nI 2) :: st) h := exF_j (i := (i_const (.int (nI 2)) 1445)) rfl rfl
theorem eL_law_1445 {ev : xV} {v0 v1 v2 v3 v4 v5 v6 : Option Value} {x y : Int32} {st : List Value} {h : xH} : exF ev cL_law 1445 ([v0, v1, v2, v3, v4, v5, v6], []) (.int y :: .int x :: st) h = exF ev cL_law 1446 ([v0, v1, v2, v3, v4, v5, v6], []) (.int (x + y) :: st) h := exF_j (i := (i_ii (fun x y => x + y) 1446)) rfl rfl
theorem eL_law_1446 {ev : xV} {v0 v1 v2 v3 v4 v5 v6 : Option Value} {i : Int32} {a : Nat} {st : List Value} {h : xH} : exF ev cL_law 1446 ([v0, v1, v2, v3, v4, v5, v6], []) (.int i :: .ref a :: st) h = xO (xai h 0 a i) (fun v => exF ev cL_law 1447 ([v0, v1, v2, v3, v4, v5, v6], []) (.int v :: st) h) := exF_o (i := (i_ai 0 1447)) rfl rfl
theorem eL_law_1447 {ev : xV} {v0 v1 v2 v3 v4 v5 v6 : Option Value} {x : Int32} {st : List Value} {h : xH} : exF ev cL_law 1447 ([v0, v1, v2, v3, v4, v5, v6], []) (.int x :: st) h = if x = 0 then exF ev cL_law 1454 ([v0, v1, v2, v3, v4, v5, v6], []) st h else exF ev cL_law 1450 ([v0, v1, v2, v3, v4, v5, v6], []) st h := exF_b (i := (i_if1 (fun x => x = 0) 1454 1450)) rfl rfl
theorem eL_law_1450 {ev : xV} {v0 v1 v2 v3 v4 v5 v6 : Option Value} {st : List Value} {h : xH} : exF ev cL_law 1450 ([v0, v1, v2, v3, v4, v5, v6], []) st h = exF ev cL_law 1451 ([v0, v1, v2, v3, v4, v5, v6], []) (.int (nI 1) :: st) h := exF_j (i := (i_const (.int (nI 1)) 1451)) rfl rfl
theorem eL_law_1451 {ev : xV} {v0 v1 v2 v3 v4 v5 v6 : Option Value} {st : List Value} {h : xH} : exF ev cL_law 1451 ([v0, v1, v2, v3, v4, v5, v6], []) st h = exF ev cL_law 1455 ([v0, v1, v2, v3, v4, v5, v6], []) st h := exF_j (i := (i_goto 1455)) rfl rfl
theorem eL_law_1454 {ev : xV} {v0 v1 v2 v3 v4 v5 v6 : Option Value} {st : List Value} {h : xH} : exF ev cL_law 1454 ([v0, v1, v2, v3, v4, v5, v6], []) st h = exF ev cL_law 1455 ([v0, v1, v2, v3, v4, v5, v6], []) (.int (nI 0) :: st) h := exF_j (i := (i_const (.int (nI 0)) 1455)) rfl rfl
theorem eL_law_1455 {ev : xV} {v0 v1 v2 v3 v4 v5 v6 : Option Value} {a0 : Value} {a1 : Value} {a : Nat} {h : xH} : exF ev cL_law 1455 ([v0, v1, v2, v3, v4, v5, v6], []) [a1, a0, .ref a] h = xO (xck h a 0) (fun _ => xB (ev 161 [.ref a, a0, a1] h) (fun v h => exF ev cL_law 1458 ([v0, v1, v2, v3, v4, v5, v6], []) [v] h)) := exF_cd (i := (i_cv 0 161 2 1458)) rfl rfl
theorem eL_law_1458 {ev : xV} {v0 v1 v3 v4 v5 v6 : Option Value} {x : Nat} {st : List Value} {h : xH} : exF ev cL_law 1458 ([v0, v1, some (.ref x), v3, v4, v5, v6], []) st h = exF ev cL_law 1459 ([v0, v1, some (.ref x), v3, v4, v5, v6], []) (.ref x :: st) h := exF_j (i := (i_aload 2 1459)) rfl rfl
theorem eL_law_1459 {ev : xV} {v1 v2 v3 v4 v5 v6 : Option Value} {x : Nat} {st : List Value} {h : xH} : exF ev cL_law 1459 ([some (.ref x), v1, v2, v3, v4, v5, v6], []) st h = exF ev cL_law 1460 ([some (.ref x), v1, v2, v3, v4, v5, v6], []) (.ref x :: st) h := exF_j (i := (i_aload 0 1460)) rfl rfl
theorem eL_law_1460 {ev : xV} {v0 v1 v2 v3 v5 v6 : Option Value} {x : Int32} {st : List Value} {h : xH} : exF ev cL_law 1460 ([v0, v1, v2, v3, some (.int x), v5, v6], []) st h = exF ev cL_law 1462 ([v0, v1, v2, v3, some (.int x), v5, v6], []) (.int x :: st) h := exF_j (i := (i_iload 4 1462)) rfl rfl
theorem eL_law_1462 {ev : xV} {v0 v1 v2 v3 v4 v5 v6 : Option Value} {st : List Value} {h : xH} : exF ev cL_law 1462 ([v0, v1, v2, v3, v4, v5, v6], []) st h = exF ev cL_law 1463 ([v0, v1, v2, v3, v4, v5, v6], []) (.int (nI 1) :: st) h := exF_j (i := (i_const (.int (nI 1)) 1463)) rfl rfl
theorem eL_law_1463 {ev : xV} {v0 v1 v2 v3 v4 v5 v6 : Option Value} {x y : Int32} {st : List Value} {h : xH} : exF ev cL_law 1463 ([v0, v1, v2, v3, v4, v5, v6], []) (.int y :: .int x :: st) h = exF ev cL_law 1464 ([v0, v1, v2, v3, v4, v5, v6], []) (.int (x + y) :: st) h := exF_j (i := (i_ii (fun x y => x + y) 1464)) rfl rfl
theorem eL_law_1464 {ev : xV} {v0 v1 v2 v3 v4 v5 v6 : Option Value} {i : Int32} {a : Nat} {st : List Value} {h : xH} : exF ev cL_law 1464 ([v0, v1, v2, v3, v4, v5, v6], []) (.int i :: .ref a :: st) h = xO (xai h 0 a i) (fun v => exF ev cL_law 1465 ([v0, v1, v2, v3, v4, v5, v6], []) (.int v :: st) h) := exF_o (i := (i_ai 0 1465)) rfl rfl
theorem eL_law_1465 {ev : xV} {v1 v2 v3 v4 v5 v6 : Option Value} {x : Nat} {st : List Value} {h : xH} : exF ev cL_law 1465 ([some (.ref x), v1, v2, v3, v4, v5, v6], []) st h = exF ev cL_law 1466 ([some (.ref x), v1, v2, v3, v4, v5, v6], []) (.ref x :: st) h := exF_j (i := (i_aload 0 1466)) rfl rfl
theorem eL_law_1466 {ev : xV} {v0 v1 v2 v3 v5 v6 : Option Value} {x : Int32} {st : List Value} {h : xH} : exF ev cL_law 1466 ([v0, v1, v2, v3, some (.int x), v5, v6], []) st h = exF ev cL_law 1468 ([v0, v1, v2, v3, some (.int x), v5, v6], []) (.int x :: st) h := exF_j (i := (i_iload 4 1468)) rfl rfl
theorem eL_law_1468 {ev : xV} {v0 v1 v2 v3 v4 v5 v6 : Option Value} {st : List Value} {h : xH} : exF ev cL_law 1468 ([v0, v1, v2, v3, v4, v5, v6], []) st h = exF ev cL_law 1469 ([v0, v1, v2, v3, v4, v5, v6], []) (.int (nI 2) :: st) h := exF_j (i := (i_const (.int (nI 2)) 1469)) rfl rfl
theorem eL_law_1469 {ev : xV} {v0 v1 v2 v3 v4 v5 v6 : Option Value} {x y : Int32} {st : List Value} {h : xH} : exF ev cL_law 1469 ([v0, v1, v2, v3, v4, v5, v6], []) (.int y :: .int x :: st) h = exF ev cL_law 1470 ([v0, v1, v2, v3, v4, v5, v6], []) (.int (x + y) :: st) h := exF_j (i := (i_ii (fun x y => x + y) 1470)) rfl rfl
theorem eL_law_1470 {ev : xV} {v0 v1 v2 v3 v4 v5 v6 : Option Value} {i : Int32} {a : Nat} {st : List Value} {h : xH} : exF ev cL_law 1470 ([v0, v1, v2, v3, v4, v5, v6], []) (.int i :: .ref a :: st) h = xO (xai h 0 a i) (fun v => exF ev cL_law 1471 ([v0, v1, v2, v3, v4, v5, v6], []) (.int v :: st) h) := exF_o (i := (i_ai 0 1471)) rfl rfl
theorem eL_law_1471 {ev : xV} {v0 v1 v2 v3 v4 v5 v6 : Option Value} {x : Int32} {st : List Value} {h : xH} : exF ev cL_law 1471 ([v0, v1, v2, v3, v4, v5, v6], []) (.int x :: st) h = if x = 0 then exF ev cL_law 1478 ([v0, v1, v2, v3, v4, v5, v6], []) st h else exF ev cL_law 1474 ([v0, v1, v2, v3, v4, v5, v6], []) st h := exF_b (i := (i_if1 (fun x => x = 0) 1478 1474)) rfl rfl
theorem eL_law_1474 {ev : xV} {v0 v1 v2 v3 v4 v5 v6 : Option Value} {st : List Value} {h : xH} : exF ev cL_law 1474 ([v0, v1, v2, v3, v4, v5, v6], []) st h = exF ev cL_law 1475 ([v0, v1, v2, v3, v4, v5, v6], []) (.int (nI 1) :: st) h := exF_j (i := (i_const (.int (nI 1)) 1475)) rfl rfl
theorem eL_law_1475 {ev : xV} {v0 v1 v2 v3 v4 v5 v6 : Option Value} {st : List Value} {h : xH} : exF ev cL_law 1475 ([v0, v1, v2, v3, v4, v5, v6], []) st h = exF ev cL_law 1479 ([v0, v1, v2, v3, v4, v5, v6], []) st h := exF_j (i := (i_goto 1479)) rfl rfl
theorem eL_law_1478 {ev : xV} {v0 v1 v2 v3 v4 v5 v6 : Option Value} {st : List Value} {h : xH} : exF ev cL_law 1478 ([v0, v1, v2, v3, v4, v5, v6], []) st h = exF ev cL_law 1479 ([v0, v1, v2, v3, v4, v5, v6], []) (.int (nI 0) :: st) h := exF_j (i := (i_const (.int (nI 0)) 1479)) rfl rfl
theorem eL_law_1479 {ev : xV} {v0 v1 v2 v3 v4 v5 v6 : Option Value} {a0 : Value} {a1 : Value} {r0 : Value} {a : Nat} {h : xH} : exF ev cL_law 1479 ([v0, v1, v2, v3, v4, v5, v6], []) [a1, a0, .ref a, r0] h = xO (xck h a 4) (fun _ => xB (ev 364 [.ref a, a0, a1] h) (fun v h => exF ev cL_law 1482 ([v0, v1, v2, v3, v4, v5, v6], []) [v, r0] h)) := exF_cd (i := (i_cv 4 364 2 1482)) rfl rfl
theorem eL_law_1482 {ev : xV} {v0 v1 v2 v3 v4 v5 v6 : Option Value} {x y : Int32} {st : List Value} {h : xH} : exF ev cL_law 1482 ([v0, v1, v2, v3, v4, v5, v6], []) (.int y :: .int x :: st) h = if x = y then exF ev cL_law 1512 ([v0, v1, v2, v3, v4, v5, v6], []) st h else exF ev cL_law 1485 ([v0, v1, v2, v3, v4, v5, v6], []) st h := exF_b (i := (i_if2 (fun x y => x = y) 1512 1485)) rfl rfl
theorem eL_law_1485 {ev : xV} {v0 v1 v2 v3 v4 v5 v6 : Option Value} {st : List Value} {h : xH} : exF ev cL_law 1485 ([v0, v1, v2, v3, v4, v5, v6], []) st h = exF ev cL_law 1486 ([v0, v1, v2, v3, v4, v5, v6], []) (.int (nI 0) :: st) h := exF_j (i := (i_const (.int (nI 0)) 1486)) rfl rfl
theorem eL_law_1486 {ev : xV} {v0 v1 v2 v3 v4 v5 v6 : Option Value} {x : Int32} {h : xH} : exF ev cL_law 1486 ([v0, v1, v2, v3, v4, v5, v6], []) [.int x] h = if x = nI 0 ∨ x = nI 1 then some (.inl (some (.int x)), h) else none := exF_z (i := (i_zret)) rfl rfl
theorem eL_law_1486b0 {ev : xV} {v0 v1 v2 v3 v4 v5 v6 : Option Value} {h : xH} : exF ev cL_law 1486 ([v0, v1, v2, v3, v4, v5, v6], []) [.int (nI 0)] h = some (.inl (some (.int (nI 0))), h) := exF_r (i := (i_zret)) rfl i_zret_0
theorem eL_law_1486b1 {ev : xV} {v0 v1 v2 v3 v4 v5 v6 : Option Value} {h : xH} : exF ev cL_law 1486 ([v0, v1, v2, v3, v4, v5, v6], []) [.int (nI 1)] h = some (.inl (some (.int (nI 1))), h) := exF_r (i := (i_zret)) rfl i_zret_1
theorem eL_law_1486b {ev : xV} {v0 v1 v2 v3 v4 v5 v6 : Option Value} {b : Bool} {h : xH} : exF ev cL_law 1486 ([v0, v1, v2, v3, v4, v5, v6], []) [.int (bI b)] h = some (.inl (some (.int (bI b))), h) := exF_r (i := (i_zret)) rfl (i_zret_b b)
theorem eL_law_1487 {ev : xV} {v0 v2 v3 v4 v5 v6 : Option Value} {x : Nat} {st : List Value} {h : xH} : exF ev cL_law 1487 ([v0, some (.ref x), v2, v3, v4, v5, v6], []) st h = exF ev cL_law 1488 ([v0, some (.ref x), v2, v3, v4, v5, v6], []) (.ref x :: st) h := exF_j (i := (i_aload 1 1488)) rfl rfl
theorem eL_law_1488 {ev : xV} {v1 v2 v3 v4 v5 v6 : Option Value} {x : Nat} {st : List Value} {h : xH} : exF ev cL_law 1488 ([some (.ref x), v1, v2, v3, v4, v5, v6], []) st h = exF ev cL_law 1489 ([some (.ref x), v1, v2, v3, v4, v5, v6], []) (.ref x :: st) h := exF_j (i := (i_aload 0 1489)) rfl rfl
theorem eL_law_1489 {ev : xV} {v0 v1 v2 v3 v5 v6 : Option Value} {x : Int32} {st : List Value} {h : xH} : exF ev cL_law 1489 ([v0, v1, v2, v3, some (.int x), v5, v6], []) st h = exF ev cL_law 1491 ([v0, v1, v2, v3, some (.int x), v5, v6], []) (.int x :: st) h := exF_j (i := (i_iload 4 1491)) rfl rfl
theorem eL_law_1491 {ev : xV} {v0 v1 v2 v3 v4 v5 v6 : Option Value} {st : List Value} {h : xH} : exF ev cL_law 1491 ([v0, v1, v2, v3, v4, v5, v6], []) st h = exF ev cL_law 1492 ([v0, v1, v2, v3, v4, v5, v6], []) (.int (nI 1) :: st) h := exF_j (i := (i_const (.int (nI 1)) 1492)) rfl rfl
theorem eL_law_1492 {ev : xV} {v0 v1 v2 v3 v4 v5 v6 : Option Value} {x y : Int32} {st : List Value} {h : xH} : exF ev cL_law 1492 ([v0, v1, v2, v3, v4, v5, v6], []) (.int y :: .int x :: st) h = exF ev cL_law 1493 ([v0, v1, v2, v3, v4, v5, v6], []) (.int (x + y) :: st) h := exF_j (i := (i_ii (fun x y => x + y) 1493)) rfl rfl
theorem eL_law_1493 {ev : xV} {v0 v1 v2 v3 v4 v5 v6 : Option Value} {i : Int32} {a : Nat} {st : List Value} {h : xH} : exF ev cL_law 1493 ([v0, v1, v2, v3, v4, v5, v6], []) (.int i :: .ref a :: st) h = xO (xai h 0 a i) (fun v => exF ev cL_law 1494 ([v0, v1, v2, v3, v4, v5, v6], []) (.int v :: st) h) := exF_o (i := (i_ai 0 1494)) rfl rfl
theorem eL_law_1494 {ev : xV} {v0 v1 v2 v3 v4 v5 v6 : Option Value} {a0 : Value} {a : Nat} {h : xH} : exF ev cL_law 1494 ([v0, v1, v2, v3, v4, v5, v6], []) [a0, .ref a] h = xO (xck h a 0) (fun _ => xB (ev 162 [.ref a, a0] h) (fun v h => exF ev cL_law 1497 ([v0, v1, v2, v3, v4, v5, v6], []) [v] h)) := exF_cd (i := (i_cv 0 162 1 1497)) rfl rfl
theorem eL_law_1497 {ev : xV} {v0 v1 v3 v4 v5 v6 : Option Value} {x : Nat} {st : List Value} {h : xH} : exF ev cL_law 1497 ([v0, v1, some (.ref x), v3, v4, v5, v6], []) st h = exF ev cL_law 1498 ([v0, v1, some (.ref x), v3, v4, v5, v6], []) (.ref x :: st) h := exF_j (i := (i_aload 2 1498)) rfl rfl
theorem eL_law_1498 {ev : xV} {v1 v2 v3 v4 v5 v6 : Option Value} {x : Nat} {st : List Value} {h : xH} : exF ev cL_law 1498 ([some (.ref x), v1, v2, v3, v4, v5, v6], []) st h = exF ev cL_law 1499 ([some (.ref x), v1, v2, v3, v4, v5, v6], []) (.ref x :: st) h := exF_j (i := (i_aload 0 1499)) rfl rfl
theorem eL_law_1499 {ev : xV} {v0 v1 v2 v3 v5 v6 : Option Value} {x : Int32} {st : List Value} {h : xH} : exF ev cL_law 1499 ([v0, v1, v2, v3, some (.int x), v5, v6], []) st h = exF ev cL_law 1501 ([v0, v1, v2, v3, some (.int x), v5, v6], []) (.int x :: st) h := exF_j (i := (i_iload 4 1501)) rfl rfl
theorem eL_law_1501 {ev : xV} {v0 v1 v2 v3 v4 v5 v6 : Option Value} {st : List Value} {h : xH} : exF ev cL_law 1501 ([v0, v1, v2, v3, v4, v5, v6], []) st h = exF ev cL_law 1502 ([v0, v1, v2, v3, v4, v5, v6], []) (.int (nI 1) :: st) h := exF_j (i := (i_const (.int (nI 1)) 1502)) rfl rfl
theorem eL_law_1502 {ev : xV} {v0 v1 v2 v3 v4 v5 v6 : Option Value} {x y : Int32} {st : List Value} {h : xH} : exF ev cL_law 1502 ([v0, v1, v2, v3, v4, v5, v6], []) (.int y :: .int x :: st) h = exF ev cL_law 1503 ([v0, v1, v2, v3, v4, v5, v6], []) (.int (x + y) :: st) h := exF_j (i := (i_ii (fun x y => x + y) 1503)) rfl rfl
theorem eL_law_1503 {ev : xV} {v0 v1 v2 v3 v4 v5 v6 : Option Value} {i : Int32} {a : Nat} {st : List Value} {h : xH} : exF ev cL_law 1503 ([v0, v1, v2, v3, v4, v5, v6], []) (.int i :: .ref a :: st) h = xO (xai h 0 a i) (fun v => exF ev cL_law 1504 ([v0, v1, v2, v3, v4, v5, v6], []) (.int v :: st) h) := exF_o (i := (i_ai 0 1504)) rfl rfl
theorem eL_law_1504 {ev : xV} {v0 v1 v2 v3 v4 v5 v6 : Option Value} {a0 : Value} {r0 : Value} {a : Nat} {h : xH} : exF ev cL_law 1504 ([v0, v1, v2, v3, v4, v5, v6], []) [a0, .ref a, r0] h = xO (xck h a 4) (fun _ => xB (ev 365 [.ref a, a0] h) (fun v h => exF ev cL_law 1507 ([v0, v1, v2, v3, v4, v5, v6], []) [v, r0] h)) := exF_cd (i := (i_cv 4 365 1 1507)) rfl rfl
theorem eL_law_1507 {ev : xV} {v0 v1 v2 v3 v4 v5 v6 : Option Value} {x y : Int32} {st : List Value} {h : xH} : exF ev cL_law 1507 ([v0, v1, v2, v3, v4, v5, v6], []) (.int y :: .int x :: st) h = if x = y then exF ev cL_law 1512 ([v0, v1, v2, v3, v4, v5, v6], []) st h else exF ev cL_law 1510 ([v0, v1, v2, v3, v4, v5, v6], []) st h := exF_b (i := (i_if2 (fun x y => x = y) 1512 1510)) rfl rfl
theorem eL_law_1510 {ev : xV} {v0 v1 v2 v3 v4 v5 v6 : Option Value} {st : List Value} {h : xH} : exF ev cL_law 1510 ([v0, v1, v2, v3, v4, v5, v6], []) st h = exF ev cL_law 1511 ([v0, v1, v2, v3, v4, v5, v6], []) (.int (nI 0) :: st) h := exF_j (i := (i_const (.int (nI 0)) 1511)) rfl rfl
theorem eL_law_1511 {ev : xV} {v0 v1 v2 v3 v4 v5 v6 : Option Value} {x : Int32} {h : xH} : exF ev cL_law 1511 ([v0, v1, v2, v3, v4, v5, v6], []) [.int x] h = if x = nI 0 ∨ x = nI 1 then some (.inl (some (.int x)), h) else none := exF_z (i := (i_zret)) rfl rfl
theorem eL_law_1511b0 {ev : xV} {v0 v1 v2 v3 v4 v5 v6 : Option Value} {h : xH} : exF ev cL_law 1511 ([v0, v1, v2, v3, v4, v5, v6], []) [.int (nI 0)] h = some (.inl (some (.int (nI 0))), h) := exF_r (i := (i_zret)) rfl i_zret_0
theorem eL_law_1511b1 {ev : xV} {v0 v1 v2 v3 v4 v5 v6 : Option Value} {h : xH} : exF ev cL_law 1511 ([v0, v1, v2, v3, v4, v5, v6], []) [.int (nI 1)] h = some (.inl (some (.int (nI 1))), h) := exF_r (i := (i_zret)) rfl i_zret_1
theorem eL_law_1511b {ev : xV} {v0 v1 v2 v3 v4 v5 v6 : Option Value} {b : Bool} {h : xH} : exF ev cL_law 1511 ([v0, v1, v2, v3, v4, v5, v6], []) [.int (bI b)] h = some (.inl (some (.int (bI b))), h) := exF_r (i := (i_zret)) rfl (i_zret_b b)
theorem eL_law_1512 {ev : xV} {v0 v1 v2 v3 v5 v6 : Option Value} {x : Int32} {st : List Value} {h : xH} : exF ev cL_law 1512 ([v0, v1, v2, v3, some (.int x), v5, v6], []) st h = exF ev cL_law 1515 ([v0, v1, v2, v3, some (.int (x + (nI 7))), v5, v6], []) st h := exF_j (i := (i_iinc 4 (nI 7) 1515)) rfl rfl
theorem eL_law_1515 {ev : xV} {v0 v1 v2 v3 v4 v5 v6 : Option Value} {st : List Value} {h : xH} : exF ev cL_law 1515 ([v0, v1, v2, v3, v4, v5, v6], []) st h = exF ev cL_law 23 ([v0, v1, v2, v3, v4, v5, v6], []) st h := exF_j (i := (i_goto 23)) rfl rfl
theorem eL_law_1518 {ev : xV} {v0 v1 v2 v3 v4 v5 v6 : Option Value} {st : List Value} {h : xH} : exF ev cL_law 1518 ([v0, v1, v2, v3, v4, v5, v6], []) st h = exF ev cL_law 1519 ([v0, v1, v2, v3, v4, v5, v6], []) (.int (nI 1) :: st) h := exF_j (i := (i_const (.int (nI 1)) 1519)) rfl rfl
theorem eL_law_1519 {ev : xV} {v0 v1 v2 v3 v4 v5 v6 : Option Value} {x : Int32} {h : xH} : exF ev cL_law 1519 ([v0, v1, v2, v3, v4, v5, v6], []) [.int x] h = if x = nI 0 ∨ x = nI 1 then some (.inl (some (.int x)), h) else none := exF_z (i := (i_zret)) rfl rfl
theorem eL_law_1519b0 {ev : xV} {v0 v1 v2 v3 v4 v5 v6 : Option Value} {h : xH} : exF ev cL_law 1519 ([v0, v1, v2, v3, v4, v5, v6], []) [.int (nI 0)] h = some (.inl (some (.int (nI 0))), h) := exF_r (i := (i_zret)) rfl i_zret_0
theorem eL_law_1519b1 {ev : xV} {v0 v1 v2 v3 v4 v5 v6 : Option Value} {h : xH} : exF ev cL_law 1519 ([v0, v1, v2, v3, v4, v5, v6], []) [.int (nI 1)] h = some (.inl (some (.int (nI 1))), h) := exF_r (i := (i_zret)) rfl i_zret_1
theorem eL_law_1519b {ev : xV} {v0 v1 v2 v3 v4 v5 v6 : Option Value} {b : Bool} {h : xH} : exF ev cL_law 1519 ([v0, v1, v2, v3, v4, v5, v6], []) [.int (bI b)] h = some (.inl (some (.int (bI b))), h) := exF_r (i := (i_zret)) rfl (i_zret_b b)
